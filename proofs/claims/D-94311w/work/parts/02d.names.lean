/-! StoneYear$State -/
set_option maxRecDepth 100000
def RX1 : String := "StoneYear$State"
def TX1 : u_T := fun k => match k with
  | 0 => ("StoneYear$State", "town", "LStoneYear$Town;", false)
  | 1 => ("StoneYear$State", "bars", "Ljava/util/ArrayList;", false)
  | 2 => ("StoneYear$State", "lies", "J", false)
  | 3 => ("StoneYear$State", "year", "I", false)
  | 4 => ("StoneYear$State", "carried", "[I", true)
  | _ => ("StoneYear$State", "latest", "[I", true)
def tyX1 : Nat → FieldType := fun k => match k with
  | 0 => .object "StoneYear$Town"
  | 1 => .object "java/util/ArrayList"
  | 2 => .long
  | 3 => .int
  | 4 => .array .int
  | _ => .array .int
abbrev wsX10 : List Cond := u_ws RX1 TX1 6
theorem nmX1 : ∀ a, a < 6 → ∀ b, b < 6 → a ≠ b → (TX1 a).2.1 ≠ (TX1 b).2.1 := by decide +kernel
theorem tyX1_ok : ∀ k, k < 6 → parseFieldDescriptor (TX1 k).2.2.1 = some (tyX1 k) := by decide +kernel
abbrev cX1_init : ByteArray := prog_15_method_1_code
def yX1_init : MethodName := ⟨RX1, "<init>", "()V"⟩
def dkwX1_init_1 : List UInt8 := [181, 0, 23, 42, 16, 8, 188, 10, 181, 0, 27, 42, 16, 8, 188, 10, 181, 0, 31, 177]
abbrev dktX1_init_1 : List UInt8 := dkwX1_init_1 ++ []
def dkwX1_init_0 : List UInt8 := [42, 183, 0, 3, 42, 187, 0, 9, 89, 183, 0, 11, 181, 0, 12, 42, 187, 0, 18, 89, 5, 183, 0, 20]
abbrev dktX1_init_0 : List UInt8 := dkwX1_init_0 ++ dktX1_init_1
theorem dksX1_init_0 : cX1_init.data.toList.drop 0 = dktX1_init_0 := by decide +kernel
theorem dksX1_init_1 : cX1_init.data.toList.drop 24 = dktX1_init_1 := dk_seg dksX1_init_0 24 rfl rfl
theorem dX1_init_0 : decode cX1_init 0 = .ok (.aload_n 0, 1) := dk_42 (dk_at dksX1_init_0 0 rfl rfl)
theorem dX1_init_1 : decode cX1_init 1 = .ok (.invokespecial 3, 3) := dk_183 0 3 (dk_at dksX1_init_0 1 rfl rfl)
theorem dX1_init_4 : decode cX1_init 4 = .ok (.aload_n 0, 1) := dk_42 (dk_at dksX1_init_0 4 rfl rfl)
theorem dX1_init_5 : decode cX1_init 5 = .ok (.new 9, 3) := dk_187 0 9 (dk_at dksX1_init_0 5 rfl rfl)
theorem dX1_init_8 : decode cX1_init 8 = .ok (.dup, 1) := dk_89 (dk_at dksX1_init_0 8 rfl rfl)
theorem dX1_init_9 : decode cX1_init 9 = .ok (.invokespecial 11, 3) := dk_183 0 11 (dk_at dksX1_init_0 9 rfl rfl)
theorem dX1_init_12 : decode cX1_init 12 = .ok (.putfield 12, 3) := dk_181 0 12 (dk_at dksX1_init_0 12 rfl rfl)
theorem dX1_init_15 : decode cX1_init 15 = .ok (.aload_n 0, 1) := dk_42 (dk_at dksX1_init_0 15 rfl rfl)
theorem dX1_init_16 : decode cX1_init 16 = .ok (.new 18, 3) := dk_187 0 18 (dk_at dksX1_init_0 16 rfl rfl)
theorem dX1_init_19 : decode cX1_init 19 = .ok (.dup, 1) := dk_89 (dk_at dksX1_init_0 19 rfl rfl)
theorem dX1_init_20 : decode cX1_init 20 = .ok (.iconst 2, 1) := dk_5 (dk_at dksX1_init_0 20 rfl rfl)
theorem dX1_init_21 : decode cX1_init 21 = .ok (.invokespecial 20, 3) := dk_183 0 20 (dk_at dksX1_init_0 21 rfl rfl)
theorem dX1_init_24 : decode cX1_init 24 = .ok (.putfield 23, 3) := dk_181 0 23 (dk_at dksX1_init_1 0 rfl rfl)
theorem dX1_init_27 : decode cX1_init 27 = .ok (.aload_n 0, 1) := dk_42 (dk_at dksX1_init_1 3 rfl rfl)
theorem dX1_init_28 : decode cX1_init 28 = .ok (.bipush 8, 2) := dk_16 8 (dk_at dksX1_init_1 4 rfl rfl)
theorem dX1_init_30 : decode cX1_init 30 = .ok (.newarray .int, 2) := dk_188_10 (dk_at dksX1_init_1 6 rfl rfl)
theorem dX1_init_32 : decode cX1_init 32 = .ok (.putfield 27, 3) := dk_181 0 27 (dk_at dksX1_init_1 8 rfl rfl)
theorem dX1_init_35 : decode cX1_init 35 = .ok (.aload_n 0, 1) := dk_42 (dk_at dksX1_init_1 11 rfl rfl)
theorem dX1_init_36 : decode cX1_init 36 = .ok (.bipush 8, 2) := dk_16 8 (dk_at dksX1_init_1 12 rfl rfl)
theorem dX1_init_38 : decode cX1_init 38 = .ok (.newarray .int, 2) := dk_188_10 (dk_at dksX1_init_1 14 rfl rfl)
theorem dX1_init_40 : decode cX1_init 40 = .ok (.putfield 31, 3) := dk_181 0 31 (dk_at dksX1_init_1 16 rfl rfl)
theorem dX1_init_43 : decode cX1_init 43 = .ok (.return_, 1) := dk_177 (dk_at dksX1_init_1 19 rfl rfl)
abbrev cX1_begins : ByteArray := prog_15_method_3_code
def yX1_begins : MethodName := ⟨RX1, "begins", "(LStoneYear$Town;)V"⟩
def dkwX1_begins_4 : List UInt8 := [180, 0, 35, 21, 4, 133, 7, 29, 104, 121, 129, 181, 0, 35, 132, 3, 1, 167, 255, 167, 177]
abbrev dktX1_begins_4 : List UInt8 := dkwX1_begins_4 ++ []
def dkwX1_begins_3 : List UInt8 := [54, 5, 6, 21, 5, 104, 44, 21, 5, 46, 96, 54, 4, 44, 21, 5, 92, 46, 4, 96, 79, 42, 89]
abbrev dktX1_begins_3 : List UInt8 := dkwX1_begins_3 ++ dktX1_begins_4
def dkwX1_begins_2 : List UInt8 := [180, 0, 43, 182, 0, 46, 162, 0, 38, 43, 180, 0, 43, 29, 182, 0, 50, 192, 0, 54, 180, 0, 56]
abbrev dktX1_begins_2 : List UInt8 := dkwX1_begins_2 ++ dktX1_begins_3
def dkwX1_begins_1 : List UInt8 := [162, 0, 89, 42, 180, 0, 27, 29, 3, 79, 42, 180, 0, 31, 29, 2, 79, 16, 15, 54, 4, 29, 43]
abbrev dktX1_begins_1 : List UInt8 := dkwX1_begins_1 ++ dktX1_begins_2
def dkwX1_begins_0 : List UInt8 := [42, 43, 181, 0, 12, 42, 3, 181, 0, 39, 42, 9, 181, 0, 35, 8, 188, 10, 77, 3, 62, 29, 16, 8]
abbrev dktX1_begins_0 : List UInt8 := dkwX1_begins_0 ++ dktX1_begins_1
theorem dksX1_begins_0 : cX1_begins.data.toList.drop 0 = dktX1_begins_0 := by decide +kernel
theorem dksX1_begins_1 : cX1_begins.data.toList.drop 24 = dktX1_begins_1 := dk_seg dksX1_begins_0 24 rfl rfl
theorem dksX1_begins_2 : cX1_begins.data.toList.drop 47 = dktX1_begins_2 := dk_seg dksX1_begins_1 23 rfl rfl
theorem dksX1_begins_3 : cX1_begins.data.toList.drop 70 = dktX1_begins_3 := dk_seg dksX1_begins_2 23 rfl rfl
theorem dksX1_begins_4 : cX1_begins.data.toList.drop 93 = dktX1_begins_4 := dk_seg dksX1_begins_3 23 rfl rfl
theorem dX1_begins_0 : decode cX1_begins 0 = .ok (.aload_n 0, 1) := dk_42 (dk_at dksX1_begins_0 0 rfl rfl)
theorem dX1_begins_1 : decode cX1_begins 1 = .ok (.aload_n 1, 1) := dk_43 (dk_at dksX1_begins_0 1 rfl rfl)
theorem dX1_begins_2 : decode cX1_begins 2 = .ok (.putfield 12, 3) := dk_181 0 12 (dk_at dksX1_begins_0 2 rfl rfl)
theorem dX1_begins_5 : decode cX1_begins 5 = .ok (.aload_n 0, 1) := dk_42 (dk_at dksX1_begins_0 5 rfl rfl)
theorem dX1_begins_6 : decode cX1_begins 6 = .ok (.iconst 0, 1) := dk_3 (dk_at dksX1_begins_0 6 rfl rfl)
theorem dX1_begins_7 : decode cX1_begins 7 = .ok (.putfield 39, 3) := dk_181 0 39 (dk_at dksX1_begins_0 7 rfl rfl)
theorem dX1_begins_10 : decode cX1_begins 10 = .ok (.aload_n 0, 1) := dk_42 (dk_at dksX1_begins_0 10 rfl rfl)
theorem dX1_begins_11 : decode cX1_begins 11 = .ok (.lconst 0, 1) := dk_9 (dk_at dksX1_begins_0 11 rfl rfl)
theorem dX1_begins_12 : decode cX1_begins 12 = .ok (.putfield 35, 3) := dk_181 0 35 (dk_at dksX1_begins_0 12 rfl rfl)
theorem dX1_begins_15 : decode cX1_begins 15 = .ok (.iconst 5, 1) := dk_8 (dk_at dksX1_begins_0 15 rfl rfl)
theorem dX1_begins_16 : decode cX1_begins 16 = .ok (.newarray .int, 2) := dk_188_10 (dk_at dksX1_begins_0 16 rfl rfl)
theorem dX1_begins_18 : decode cX1_begins 18 = .ok (.astore_n 2, 1) := dk_77 (dk_at dksX1_begins_0 18 rfl rfl)
theorem dX1_begins_19 : decode cX1_begins 19 = .ok (.iconst 0, 1) := dk_3 (dk_at dksX1_begins_0 19 rfl rfl)
theorem dX1_begins_20 : decode cX1_begins 20 = .ok (.istore_n 3, 1) := dk_62 (dk_at dksX1_begins_0 20 rfl rfl)
theorem dX1_begins_21 : decode cX1_begins 21 = .ok (.iload_n 3, 1) := dk_29 (dk_at dksX1_begins_0 21 rfl rfl)
theorem dX1_begins_22 : decode cX1_begins 22 = .ok (.bipush 8, 2) := dk_16 8 (dk_at dksX1_begins_0 22 rfl rfl)
theorem dX1_begins_24 : decode cX1_begins 24 = .ok (.if_icmp .ge 89, 3) := dk_162 0 89 (dk_at dksX1_begins_1 0 rfl rfl)
theorem dX1_begins_27 : decode cX1_begins 27 = .ok (.aload_n 0, 1) := dk_42 (dk_at dksX1_begins_1 3 rfl rfl)
theorem dX1_begins_28 : decode cX1_begins 28 = .ok (.getfield 27, 3) := dk_180 0 27 (dk_at dksX1_begins_1 4 rfl rfl)
theorem dX1_begins_31 : decode cX1_begins 31 = .ok (.iload_n 3, 1) := dk_29 (dk_at dksX1_begins_1 7 rfl rfl)
theorem dX1_begins_32 : decode cX1_begins 32 = .ok (.iconst 0, 1) := dk_3 (dk_at dksX1_begins_1 8 rfl rfl)
theorem dX1_begins_33 : decode cX1_begins 33 = .ok (.iastore, 1) := dk_79 (dk_at dksX1_begins_1 9 rfl rfl)
theorem dX1_begins_34 : decode cX1_begins 34 = .ok (.aload_n 0, 1) := dk_42 (dk_at dksX1_begins_1 10 rfl rfl)
theorem dX1_begins_35 : decode cX1_begins 35 = .ok (.getfield 31, 3) := dk_180 0 31 (dk_at dksX1_begins_1 11 rfl rfl)
theorem dX1_begins_38 : decode cX1_begins 38 = .ok (.iload_n 3, 1) := dk_29 (dk_at dksX1_begins_1 14 rfl rfl)
theorem dX1_begins_39 : decode cX1_begins 39 = .ok (.iconst (-1), 1) := dk_2 (dk_at dksX1_begins_1 15 rfl rfl)
theorem dX1_begins_40 : decode cX1_begins 40 = .ok (.iastore, 1) := dk_79 (dk_at dksX1_begins_1 16 rfl rfl)
theorem dX1_begins_41 : decode cX1_begins 41 = .ok (.bipush 15, 2) := dk_16 15 (dk_at dksX1_begins_1 17 rfl rfl)
theorem dX1_begins_43 : decode cX1_begins 43 = .ok (.istore 4, 2) := dk_54 4 (dk_at dksX1_begins_1 19 rfl rfl)
theorem dX1_begins_45 : decode cX1_begins 45 = .ok (.iload_n 3, 1) := dk_29 (dk_at dksX1_begins_1 21 rfl rfl)
theorem dX1_begins_46 : decode cX1_begins 46 = .ok (.aload_n 1, 1) := dk_43 (dk_at dksX1_begins_1 22 rfl rfl)
theorem dX1_begins_47 : decode cX1_begins 47 = .ok (.getfield 43, 3) := dk_180 0 43 (dk_at dksX1_begins_2 0 rfl rfl)
theorem dX1_begins_50 : decode cX1_begins 50 = .ok (.invokevirtual 46, 3) := dk_182 0 46 (dk_at dksX1_begins_2 3 rfl rfl)
theorem dX1_begins_53 : decode cX1_begins 53 = .ok (.if_icmp .ge 38, 3) := dk_162 0 38 (dk_at dksX1_begins_2 6 rfl rfl)
theorem dX1_begins_56 : decode cX1_begins 56 = .ok (.aload_n 1, 1) := dk_43 (dk_at dksX1_begins_2 9 rfl rfl)
theorem dX1_begins_57 : decode cX1_begins 57 = .ok (.getfield 43, 3) := dk_180 0 43 (dk_at dksX1_begins_2 10 rfl rfl)
theorem dX1_begins_60 : decode cX1_begins 60 = .ok (.iload_n 3, 1) := dk_29 (dk_at dksX1_begins_2 13 rfl rfl)
theorem dX1_begins_61 : decode cX1_begins 61 = .ok (.invokevirtual 50, 3) := dk_182 0 50 (dk_at dksX1_begins_2 14 rfl rfl)
theorem dX1_begins_64 : decode cX1_begins 64 = .ok (.checkcast 54, 3) := dk_192 0 54 (dk_at dksX1_begins_2 17 rfl rfl)
theorem dX1_begins_67 : decode cX1_begins 67 = .ok (.getfield 56, 3) := dk_180 0 56 (dk_at dksX1_begins_2 20 rfl rfl)
theorem dX1_begins_70 : decode cX1_begins 70 = .ok (.istore 5, 2) := dk_54 5 (dk_at dksX1_begins_3 0 rfl rfl)
theorem dX1_begins_72 : decode cX1_begins 72 = .ok (.iconst 3, 1) := dk_6 (dk_at dksX1_begins_3 2 rfl rfl)
theorem dX1_begins_73 : decode cX1_begins 73 = .ok (.iload 5, 2) := dk_21 5 (dk_at dksX1_begins_3 3 rfl rfl)
theorem dX1_begins_75 : decode cX1_begins 75 = .ok (.imul, 1) := dk_104 (dk_at dksX1_begins_3 5 rfl rfl)
theorem dX1_begins_76 : decode cX1_begins 76 = .ok (.aload_n 2, 1) := dk_44 (dk_at dksX1_begins_3 6 rfl rfl)
theorem dX1_begins_77 : decode cX1_begins 77 = .ok (.iload 5, 2) := dk_21 5 (dk_at dksX1_begins_3 7 rfl rfl)
theorem dX1_begins_79 : decode cX1_begins 79 = .ok (.iaload, 1) := dk_46 (dk_at dksX1_begins_3 9 rfl rfl)
theorem dX1_begins_80 : decode cX1_begins 80 = .ok (.iadd, 1) := dk_96 (dk_at dksX1_begins_3 10 rfl rfl)
theorem dX1_begins_81 : decode cX1_begins 81 = .ok (.istore 4, 2) := dk_54 4 (dk_at dksX1_begins_3 11 rfl rfl)
theorem dX1_begins_83 : decode cX1_begins 83 = .ok (.aload_n 2, 1) := dk_44 (dk_at dksX1_begins_3 13 rfl rfl)
theorem dX1_begins_84 : decode cX1_begins 84 = .ok (.iload 5, 2) := dk_21 5 (dk_at dksX1_begins_3 14 rfl rfl)
theorem dX1_begins_86 : decode cX1_begins 86 = .ok (.dup2, 1) := dk_92 (dk_at dksX1_begins_3 16 rfl rfl)
theorem dX1_begins_87 : decode cX1_begins 87 = .ok (.iaload, 1) := dk_46 (dk_at dksX1_begins_3 17 rfl rfl)
theorem dX1_begins_88 : decode cX1_begins 88 = .ok (.iconst 1, 1) := dk_4 (dk_at dksX1_begins_3 18 rfl rfl)
theorem dX1_begins_89 : decode cX1_begins 89 = .ok (.iadd, 1) := dk_96 (dk_at dksX1_begins_3 19 rfl rfl)
theorem dX1_begins_90 : decode cX1_begins 90 = .ok (.iastore, 1) := dk_79 (dk_at dksX1_begins_3 20 rfl rfl)
theorem dX1_begins_91 : decode cX1_begins 91 = .ok (.aload_n 0, 1) := dk_42 (dk_at dksX1_begins_3 21 rfl rfl)
theorem dX1_begins_92 : decode cX1_begins 92 = .ok (.dup, 1) := dk_89 (dk_at dksX1_begins_3 22 rfl rfl)
theorem dX1_begins_93 : decode cX1_begins 93 = .ok (.getfield 35, 3) := dk_180 0 35 (dk_at dksX1_begins_4 0 rfl rfl)
theorem dX1_begins_96 : decode cX1_begins 96 = .ok (.iload 4, 2) := dk_21 4 (dk_at dksX1_begins_4 3 rfl rfl)
theorem dX1_begins_98 : decode cX1_begins 98 = .ok (.i2l, 1) := dk_133 (dk_at dksX1_begins_4 5 rfl rfl)
theorem dX1_begins_99 : decode cX1_begins 99 = .ok (.iconst 4, 1) := dk_7 (dk_at dksX1_begins_4 6 rfl rfl)
theorem dX1_begins_100 : decode cX1_begins 100 = .ok (.iload_n 3, 1) := dk_29 (dk_at dksX1_begins_4 7 rfl rfl)
theorem dX1_begins_101 : decode cX1_begins 101 = .ok (.imul, 1) := dk_104 (dk_at dksX1_begins_4 8 rfl rfl)
theorem dX1_begins_102 : decode cX1_begins 102 = .ok (.lshl, 1) := dk_121 (dk_at dksX1_begins_4 9 rfl rfl)
theorem dX1_begins_103 : decode cX1_begins 103 = .ok (.lor, 1) := dk_129 (dk_at dksX1_begins_4 10 rfl rfl)
theorem dX1_begins_104 : decode cX1_begins 104 = .ok (.putfield 35, 3) := dk_181 0 35 (dk_at dksX1_begins_4 11 rfl rfl)
theorem dX1_begins_107 : decode cX1_begins 107 = .ok (.iinc 3 1, 3) := dk_132 3 1 (dk_at dksX1_begins_4 14 rfl rfl)
theorem dX1_begins_110 : decode cX1_begins 110 = .ok (.goto (-89), 3) := dk_167 255 167 (dk_at dksX1_begins_4 17 rfl rfl)
theorem dX1_begins_113 : decode cX1_begins 113 = .ok (.return_, 1) := dk_177 (dk_at dksX1_begins_4 20 rfl rfl)
abbrev cX1_copy : ByteArray := prog_15_method_2_code
def yX1_copy : MethodName := ⟨RX1, "copy", "()LStoneYear$State;"⟩
def dkwX1_copy_3 : List UInt8 := [132, 2, 1, 167, 255, 223, 43, 176]
abbrev dktX1_copy_3 : List UInt8 := dkwX1_copy_3 ++ []
def dkwX1_copy_2 : List UInt8 := [43, 180, 0, 27, 28, 42, 180, 0, 27, 28, 46, 79, 43, 180, 0, 31, 28, 42, 180, 0, 31, 28, 46, 79]
abbrev dktX1_copy_2 : List UInt8 := dkwX1_copy_2 ++ dktX1_copy_3
def dkwX1_copy_1 : List UInt8 := [43, 42, 180, 0, 35, 181, 0, 35, 43, 42, 180, 0, 39, 181, 0, 39, 3, 61, 28, 16, 8, 162, 0, 33]
abbrev dktX1_copy_1 : List UInt8 := dkwX1_copy_1 ++ dktX1_copy_2
def dkwX1_copy_0 : List UInt8 := [187, 0, 13, 89, 183, 0, 34, 76, 43, 42, 180, 0, 12, 181, 0, 12, 43, 42, 180, 0, 23, 181, 0, 23]
abbrev dktX1_copy_0 : List UInt8 := dkwX1_copy_0 ++ dktX1_copy_1
theorem dksX1_copy_0 : cX1_copy.data.toList.drop 0 = dktX1_copy_0 := by decide +kernel
theorem dksX1_copy_1 : cX1_copy.data.toList.drop 24 = dktX1_copy_1 := dk_seg dksX1_copy_0 24 rfl rfl
theorem dksX1_copy_2 : cX1_copy.data.toList.drop 48 = dktX1_copy_2 := dk_seg dksX1_copy_1 24 rfl rfl
theorem dksX1_copy_3 : cX1_copy.data.toList.drop 72 = dktX1_copy_3 := dk_seg dksX1_copy_2 24 rfl rfl
theorem dX1_copy_0 : decode cX1_copy 0 = .ok (.new 13, 3) := dk_187 0 13 (dk_at dksX1_copy_0 0 rfl rfl)
theorem dX1_copy_3 : decode cX1_copy 3 = .ok (.dup, 1) := dk_89 (dk_at dksX1_copy_0 3 rfl rfl)
theorem dX1_copy_4 : decode cX1_copy 4 = .ok (.invokespecial 34, 3) := dk_183 0 34 (dk_at dksX1_copy_0 4 rfl rfl)
theorem dX1_copy_7 : decode cX1_copy 7 = .ok (.astore_n 1, 1) := dk_76 (dk_at dksX1_copy_0 7 rfl rfl)
theorem dX1_copy_8 : decode cX1_copy 8 = .ok (.aload_n 1, 1) := dk_43 (dk_at dksX1_copy_0 8 rfl rfl)
theorem dX1_copy_9 : decode cX1_copy 9 = .ok (.aload_n 0, 1) := dk_42 (dk_at dksX1_copy_0 9 rfl rfl)
theorem dX1_copy_10 : decode cX1_copy 10 = .ok (.getfield 12, 3) := dk_180 0 12 (dk_at dksX1_copy_0 10 rfl rfl)
theorem dX1_copy_13 : decode cX1_copy 13 = .ok (.putfield 12, 3) := dk_181 0 12 (dk_at dksX1_copy_0 13 rfl rfl)
theorem dX1_copy_16 : decode cX1_copy 16 = .ok (.aload_n 1, 1) := dk_43 (dk_at dksX1_copy_0 16 rfl rfl)
theorem dX1_copy_17 : decode cX1_copy 17 = .ok (.aload_n 0, 1) := dk_42 (dk_at dksX1_copy_0 17 rfl rfl)
theorem dX1_copy_18 : decode cX1_copy 18 = .ok (.getfield 23, 3) := dk_180 0 23 (dk_at dksX1_copy_0 18 rfl rfl)
theorem dX1_copy_21 : decode cX1_copy 21 = .ok (.putfield 23, 3) := dk_181 0 23 (dk_at dksX1_copy_0 21 rfl rfl)
theorem dX1_copy_24 : decode cX1_copy 24 = .ok (.aload_n 1, 1) := dk_43 (dk_at dksX1_copy_1 0 rfl rfl)
theorem dX1_copy_25 : decode cX1_copy 25 = .ok (.aload_n 0, 1) := dk_42 (dk_at dksX1_copy_1 1 rfl rfl)
theorem dX1_copy_26 : decode cX1_copy 26 = .ok (.getfield 35, 3) := dk_180 0 35 (dk_at dksX1_copy_1 2 rfl rfl)
theorem dX1_copy_29 : decode cX1_copy 29 = .ok (.putfield 35, 3) := dk_181 0 35 (dk_at dksX1_copy_1 5 rfl rfl)
theorem dX1_copy_32 : decode cX1_copy 32 = .ok (.aload_n 1, 1) := dk_43 (dk_at dksX1_copy_1 8 rfl rfl)
theorem dX1_copy_33 : decode cX1_copy 33 = .ok (.aload_n 0, 1) := dk_42 (dk_at dksX1_copy_1 9 rfl rfl)
theorem dX1_copy_34 : decode cX1_copy 34 = .ok (.getfield 39, 3) := dk_180 0 39 (dk_at dksX1_copy_1 10 rfl rfl)
theorem dX1_copy_37 : decode cX1_copy 37 = .ok (.putfield 39, 3) := dk_181 0 39 (dk_at dksX1_copy_1 13 rfl rfl)
theorem dX1_copy_40 : decode cX1_copy 40 = .ok (.iconst 0, 1) := dk_3 (dk_at dksX1_copy_1 16 rfl rfl)
theorem dX1_copy_41 : decode cX1_copy 41 = .ok (.istore_n 2, 1) := dk_61 (dk_at dksX1_copy_1 17 rfl rfl)
theorem dX1_copy_42 : decode cX1_copy 42 = .ok (.iload_n 2, 1) := dk_28 (dk_at dksX1_copy_1 18 rfl rfl)
theorem dX1_copy_43 : decode cX1_copy 43 = .ok (.bipush 8, 2) := dk_16 8 (dk_at dksX1_copy_1 19 rfl rfl)
theorem dX1_copy_45 : decode cX1_copy 45 = .ok (.if_icmp .ge 33, 3) := dk_162 0 33 (dk_at dksX1_copy_1 21 rfl rfl)
theorem dX1_copy_48 : decode cX1_copy 48 = .ok (.aload_n 1, 1) := dk_43 (dk_at dksX1_copy_2 0 rfl rfl)
theorem dX1_copy_49 : decode cX1_copy 49 = .ok (.getfield 27, 3) := dk_180 0 27 (dk_at dksX1_copy_2 1 rfl rfl)
theorem dX1_copy_52 : decode cX1_copy 52 = .ok (.iload_n 2, 1) := dk_28 (dk_at dksX1_copy_2 4 rfl rfl)
theorem dX1_copy_53 : decode cX1_copy 53 = .ok (.aload_n 0, 1) := dk_42 (dk_at dksX1_copy_2 5 rfl rfl)
theorem dX1_copy_54 : decode cX1_copy 54 = .ok (.getfield 27, 3) := dk_180 0 27 (dk_at dksX1_copy_2 6 rfl rfl)
theorem dX1_copy_57 : decode cX1_copy 57 = .ok (.iload_n 2, 1) := dk_28 (dk_at dksX1_copy_2 9 rfl rfl)
theorem dX1_copy_58 : decode cX1_copy 58 = .ok (.iaload, 1) := dk_46 (dk_at dksX1_copy_2 10 rfl rfl)
theorem dX1_copy_59 : decode cX1_copy 59 = .ok (.iastore, 1) := dk_79 (dk_at dksX1_copy_2 11 rfl rfl)
theorem dX1_copy_60 : decode cX1_copy 60 = .ok (.aload_n 1, 1) := dk_43 (dk_at dksX1_copy_2 12 rfl rfl)
theorem dX1_copy_61 : decode cX1_copy 61 = .ok (.getfield 31, 3) := dk_180 0 31 (dk_at dksX1_copy_2 13 rfl rfl)
theorem dX1_copy_64 : decode cX1_copy 64 = .ok (.iload_n 2, 1) := dk_28 (dk_at dksX1_copy_2 16 rfl rfl)
theorem dX1_copy_65 : decode cX1_copy 65 = .ok (.aload_n 0, 1) := dk_42 (dk_at dksX1_copy_2 17 rfl rfl)
theorem dX1_copy_66 : decode cX1_copy 66 = .ok (.getfield 31, 3) := dk_180 0 31 (dk_at dksX1_copy_2 18 rfl rfl)
theorem dX1_copy_69 : decode cX1_copy 69 = .ok (.iload_n 2, 1) := dk_28 (dk_at dksX1_copy_2 21 rfl rfl)
theorem dX1_copy_70 : decode cX1_copy 70 = .ok (.iaload, 1) := dk_46 (dk_at dksX1_copy_2 22 rfl rfl)
theorem dX1_copy_71 : decode cX1_copy 71 = .ok (.iastore, 1) := dk_79 (dk_at dksX1_copy_2 23 rfl rfl)
theorem dX1_copy_72 : decode cX1_copy 72 = .ok (.iinc 2 1, 3) := dk_132 2 1 (dk_at dksX1_copy_3 0 rfl rfl)
theorem dX1_copy_75 : decode cX1_copy 75 = .ok (.goto (-33), 3) := dk_167 255 223 (dk_at dksX1_copy_3 3 rfl rfl)
theorem dX1_copy_78 : decode cX1_copy 78 = .ok (.aload_n 1, 1) := dk_43 (dk_at dksX1_copy_3 6 rfl rfl)
theorem dX1_copy_79 : decode cX1_copy 79 = .ok (.areturn, 1) := dk_176 (dk_at dksX1_copy_3 7 rfl rfl)
theorem q130 : (Jvm.Cond.initialized "StoneYear$State") ∈ lw_all := lw_g (lw_at lw_m1 2 rfl) rfl
theorem q177 : (Jvm.Cond.instantiable "StoneYear$State" (6 : Nat)) ∈ lw_all := lw_g (lw_at lw_m1 49 rfl) rfl
theorem q179 : (Jvm.Cond.instanceMethod ({ cls := "StoneYear$State", name := "<init>", desc := "()V" } : Jvm.MethodName)) ∈ lw_all := lw_g (lw_at lw_m1 51 rfl) rfl
theorem q180 : (Jvm.Cond.code ({ cls := "StoneYear$State", name := "<init>", desc := "()V" } : Jvm.MethodName) prog_15_method_1_code (1 : Nat) (Option.none : Option Jvm.ClassFile.FieldType)) ∈ lw_all := lw_g (lw_at lw_m1 52 rfl) rfl
theorem q181 : (Jvm.Cond.methodLink "StoneYear$State" (3 : Nat) ({ cls := "java/lang/Object", name := "<init>", desc := "()V" } : Jvm.MethodName)) ∈ lw_all := lw_g (lw_at lw_m1 53 rfl) rfl
theorem q182 : (Jvm.Cond.classLink "StoneYear$State" (9 : Nat) "StoneYear$Town") ∈ lw_all := lw_g (lw_at lw_m1 54 rfl) rfl
theorem q184 : (Jvm.Cond.methodLinkNest "StoneYear$State" (11 : Nat) ({ cls := "StoneYear$Town", name := "<init>", desc := "()V" } : Jvm.MethodName) "StoneYear") ∈ lw_tbl := lw_at lw_m1 56 rfl
theorem q222 : (Jvm.Cond.fieldLinkNest "StoneYear$State" (43 : Nat) "StoneYear$Town" "stones" "Ljava/util/ArrayList;" "StoneYear") ∈ lw_tbl := lw_at lw_m1 94 rfl
theorem q262 : (Jvm.Cond.classLink "StoneYear$State" (18 : Nat) "java/util/ArrayList") ∈ lw_all := lw_g (lw_at lw_m1 134 rfl) rfl
theorem q263 : (Jvm.Cond.methodLink "StoneYear$State" (20 : Nat) ({ cls := "java/util/ArrayList", name := "<init>", desc := "(I)V" } : Jvm.MethodName)) ∈ lw_all := lw_g (lw_at lw_m1 135 rfl) rfl
theorem q264 : (Jvm.Cond.fieldLink "StoneYear$State" (12 : Nat) "StoneYear$State" "town" "LStoneYear$Town;") ∈ lw_all := lw_g (lw_at lw_m1 136 rfl) rfl
theorem q267 : (Jvm.Cond.fieldLink "StoneYear$State" (23 : Nat) "StoneYear$State" "bars" "Ljava/util/ArrayList;") ∈ lw_all := lw_g (lw_at lw_m1 139 rfl) rfl
theorem q270 : (Jvm.Cond.fieldLink "StoneYear$State" (35 : Nat) "StoneYear$State" "lies" "J") ∈ lw_all := lw_g (lw_at lw_m1 142 rfl) rfl
theorem q273 : (Jvm.Cond.fieldLink "StoneYear$State" (39 : Nat) "StoneYear$State" "year" "I") ∈ lw_all := lw_g (lw_at lw_m1 145 rfl) rfl
theorem q275 : (Jvm.Cond.fieldLink "StoneYear$State" (27 : Nat) "StoneYear$State" "carried" "[I") ∈ lw_all := lw_g (lw_at lw_m1 147 rfl) rfl
theorem q277 : (Jvm.Cond.fieldLink "StoneYear$State" (31 : Nat) "StoneYear$State" "latest" "[I") ∈ lw_all := lw_g (lw_at lw_m1 149 rfl) rfl
theorem q279 : (Jvm.Cond.lays "StoneYear$State" "StoneYear$State" "town" "LStoneYear$Town;") ∈ lw_all := lw_g (lw_at lw_m1 151 rfl) rfl
theorem q280 : (Jvm.Cond.soleField "StoneYear$State" "town") ∈ lw_all := lw_g (lw_at lw_m1 152 rfl) rfl
theorem q281 : (Jvm.Cond.lays "StoneYear$State" "StoneYear$State" "bars" "Ljava/util/ArrayList;") ∈ lw_all := lw_g (lw_at lw_m1 153 rfl) rfl
theorem q282 : (Jvm.Cond.soleField "StoneYear$State" "bars") ∈ lw_all := lw_g (lw_at lw_m1 154 rfl) rfl
theorem q283 : (Jvm.Cond.lays "StoneYear$State" "StoneYear$State" "lies" "J") ∈ lw_all := lw_g (lw_at lw_m1 155 rfl) rfl
theorem q284 : (Jvm.Cond.soleField "StoneYear$State" "lies") ∈ lw_all := lw_g (lw_at lw_m1 156 rfl) rfl
theorem q285 : (Jvm.Cond.lays "StoneYear$State" "StoneYear$State" "year" "I") ∈ lw_all := lw_g (lw_at lw_m1 157 rfl) rfl
theorem q286 : (Jvm.Cond.soleField "StoneYear$State" "year") ∈ lw_all := lw_g (lw_at lw_m1 158 rfl) rfl
theorem q287 : (Jvm.Cond.laysFinal "StoneYear$State" "StoneYear$State" "carried" "[I") ∈ lw_all := lw_g (lw_at lw_m1 159 rfl) rfl
theorem q288 : (Jvm.Cond.soleField "StoneYear$State" "carried") ∈ lw_all := lw_g (lw_at lw_m1 160 rfl) rfl
theorem q289 : (Jvm.Cond.laysFinal "StoneYear$State" "StoneYear$State" "latest" "[I") ∈ lw_all := lw_g (lw_at lw_m1 161 rfl) rfl
theorem q290 : (Jvm.Cond.soleField "StoneYear$State" "latest") ∈ lw_all := lw_g (lw_at lw_m1 162 rfl) rfl
theorem q291 : (Jvm.Cond.superclass "StoneYear$State" "java/lang/Object") ∈ lw_all := lw_g (lw_at lw_m1 163 rfl) rfl
theorem q419 : (Jvm.Cond.instanceMethod ({ cls := "StoneYear$State", name := "begins", desc := "(LStoneYear$Town;)V" } : Jvm.MethodName)) ∈ lw_all := lw_g (lw_at lw_m2 51 rfl) rfl
theorem q420 : (Jvm.Cond.selects "StoneYear$State" ({ cls := "StoneYear$State", name := "begins", desc := "(LStoneYear$Town;)V" } : Jvm.MethodName) ({ cls := "StoneYear$State", name := "begins", desc := "(LStoneYear$Town;)V" } : Jvm.MethodName)) ∈ lw_all := lw_g (lw_at lw_m2 52 rfl) rfl
theorem q421 : (Jvm.Cond.code ({ cls := "StoneYear$State", name := "begins", desc := "(LStoneYear$Town;)V" } : Jvm.MethodName) prog_15_method_3_code (6 : Nat) (Option.none : Option Jvm.ClassFile.FieldType)) ∈ lw_all := lw_g (lw_at lw_m2 53 rfl) rfl
theorem q422 : (Jvm.Cond.methodLink "StoneYear$State" (46 : Nat) ({ cls := "java/util/ArrayList", name := "size", desc := "()I" } : Jvm.MethodName)) ∈ lw_all := lw_g (lw_at lw_m2 54 rfl) rfl
theorem q426 : (Jvm.Cond.methodLink "StoneYear$State" (50 : Nat) ({ cls := "java/util/ArrayList", name := "get", desc := "(I)Ljava/lang/Object;" } : Jvm.MethodName)) ∈ lw_all := lw_g (lw_at lw_m2 58 rfl) rfl
theorem q440 : (Jvm.Cond.classLink "StoneYear$State" (54 : Nat) "StoneYear$Stone") ∈ lw_all := lw_g (lw_at lw_m2 72 rfl) rfl
theorem q760 : (Jvm.Cond.selects "StoneYear$State" ({ cls := "java/lang/Object", name := "getClass", desc := "()Ljava/lang/Class;" } : Jvm.MethodName) ({ cls := "java/lang/Object", name := "getClass", desc := "()Ljava/lang/Class;" } : Jvm.MethodName)) ∈ lw_all := lw_g (lw_at lw_m3 152 rfl) rfl
theorem q813 : (Jvm.Cond.fieldLinkNest "StoneYear$State" (56 : Nat) "StoneYear$Stone" "row" "I" "StoneYear") ∈ lw_tbl := lw_at lw_m3 205 rfl
theorem q1603 : (Jvm.Cond.instanceMethod ({ cls := "StoneYear$State", name := "copy", desc := "()LStoneYear$State;" } : Jvm.MethodName)) ∈ lw_all := lw_g (lw_at lw_m7 35 rfl) rfl
theorem q1604 : (Jvm.Cond.selects "StoneYear$State" ({ cls := "StoneYear$State", name := "copy", desc := "()LStoneYear$State;" } : Jvm.MethodName) ({ cls := "StoneYear$State", name := "copy", desc := "()LStoneYear$State;" } : Jvm.MethodName)) ∈ lw_all := lw_g (lw_at lw_m7 36 rfl) rfl
theorem q1605 : (Jvm.Cond.code ({ cls := "StoneYear$State", name := "copy", desc := "()LStoneYear$State;" } : Jvm.MethodName) prog_15_method_2_code (3 : Nat) (Option.some (Jvm.ClassFile.FieldType.object "StoneYear$State"))) ∈ lw_all := lw_g (lw_at lw_m7 37 rfl) rfl
theorem q1606 : (Jvm.Cond.classLink "StoneYear$State" (13 : Nat) "StoneYear$State") ∈ lw_all := lw_g (lw_at lw_m7 38 rfl) rfl
theorem q1607 : (Jvm.Cond.methodLink "StoneYear$State" (34 : Nat) ({ cls := "StoneYear$State", name := "<init>", desc := "()V" } : Jvm.MethodName)) ∈ lw_all := lw_g (lw_at lw_m7 39 rfl) rfl
theorem q2234 : (Jvm.Cond.castable "StoneYear$State" "java/lang/Object") ∈ lw_tbl := lw_at lw_m9 186 rfl
theorem in_X1 : ∀ w ∈ wsX10, w ∈ lw_all := lw_in wsX10 [279, 281, 283, 285, 287, 289] (by decide +kernel) (by decide +kernel)
/-! StoneYear$Town -/
set_option maxRecDepth 100000
def RX2 : String := "StoneYear$Town"
def TX2 : u_T := fun k => match k with
  | 0 => ("StoneYear$Town", "rows", "Ljava/util/ArrayList;", true)
  | 1 => ("StoneYear$Town", "stones", "Ljava/util/ArrayList;", true)
  | 2 => ("StoneYear$Town", "musts", "Ljava/util/ArrayList;", true)
  | 3 => ("StoneYear$Town", "over", "I", false)
  | 4 => ("StoneYear$Town", "most", "I", false)
  | 5 => ("StoneYear$Town", "lines", "I", false)
  | 6 => ("StoneYear$Town", "rings", "Z", false)
  | _ => ("StoneYear$Town", "floods", "Z", false)
def tyX2 : Nat → FieldType := fun k => match k with
  | 0 => .object "java/util/ArrayList"
  | 1 => .object "java/util/ArrayList"
  | 2 => .object "java/util/ArrayList"
  | 3 => .int
  | 4 => .int
  | 5 => .int
  | 6 => .boolean
  | _ => .boolean
abbrev wsX20 : List Cond := u_ws RX2 TX2 8
theorem nmX2 : ∀ a, a < 8 → ∀ b, b < 8 → a ≠ b → (TX2 a).2.1 ≠ (TX2 b).2.1 := by decide +kernel
theorem tyX2_ok : ∀ k, k < 8 → parseFieldDescriptor (TX2 k).2.2.1 = some (tyX2 k) := by decide +kernel
abbrev cX2_init : ByteArray := prog_18_method_1_code
def yX2_init : MethodName := ⟨RX2, "<init>", "()V"⟩
def dkwX2_init_2 : List UInt8 := [16, 8, 181, 0, 30, 177]
abbrev dktX2_init_2 : List UInt8 := dkwX2_init_2 ++ []
def dkwX2_init_1 : List UInt8 := [183, 0, 11, 181, 0, 20, 42, 187, 0, 9, 89, 5, 183, 0, 11, 181, 0, 23, 42, 7, 181, 0, 26, 42]
abbrev dktX2_init_1 : List UInt8 := dkwX2_init_1 ++ dktX2_init_2
def dkwX2_init_0 : List UInt8 := [42, 183, 0, 3, 42, 187, 0, 9, 89, 5, 183, 0, 11, 181, 0, 14, 42, 187, 0, 9, 89, 5]
abbrev dktX2_init_0 : List UInt8 := dkwX2_init_0 ++ dktX2_init_1
theorem dksX2_init_0 : cX2_init.data.toList.drop 0 = dktX2_init_0 := by decide +kernel
theorem dksX2_init_1 : cX2_init.data.toList.drop 22 = dktX2_init_1 := dk_seg dksX2_init_0 22 rfl rfl
theorem dksX2_init_2 : cX2_init.data.toList.drop 46 = dktX2_init_2 := dk_seg dksX2_init_1 24 rfl rfl
theorem dX2_init_0 : decode cX2_init 0 = .ok (.aload_n 0, 1) := dk_42 (dk_at dksX2_init_0 0 rfl rfl)
theorem dX2_init_1 : decode cX2_init 1 = .ok (.invokespecial 3, 3) := dk_183 0 3 (dk_at dksX2_init_0 1 rfl rfl)
theorem dX2_init_4 : decode cX2_init 4 = .ok (.aload_n 0, 1) := dk_42 (dk_at dksX2_init_0 4 rfl rfl)
theorem dX2_init_5 : decode cX2_init 5 = .ok (.new 9, 3) := dk_187 0 9 (dk_at dksX2_init_0 5 rfl rfl)
theorem dX2_init_8 : decode cX2_init 8 = .ok (.dup, 1) := dk_89 (dk_at dksX2_init_0 8 rfl rfl)
theorem dX2_init_9 : decode cX2_init 9 = .ok (.iconst 2, 1) := dk_5 (dk_at dksX2_init_0 9 rfl rfl)
theorem dX2_init_10 : decode cX2_init 10 = .ok (.invokespecial 11, 3) := dk_183 0 11 (dk_at dksX2_init_0 10 rfl rfl)
theorem dX2_init_13 : decode cX2_init 13 = .ok (.putfield 14, 3) := dk_181 0 14 (dk_at dksX2_init_0 13 rfl rfl)
theorem dX2_init_16 : decode cX2_init 16 = .ok (.aload_n 0, 1) := dk_42 (dk_at dksX2_init_0 16 rfl rfl)
theorem dX2_init_17 : decode cX2_init 17 = .ok (.new 9, 3) := dk_187 0 9 (dk_at dksX2_init_0 17 rfl rfl)
theorem dX2_init_20 : decode cX2_init 20 = .ok (.dup, 1) := dk_89 (dk_at dksX2_init_0 20 rfl rfl)
theorem dX2_init_21 : decode cX2_init 21 = .ok (.iconst 2, 1) := dk_5 (dk_at dksX2_init_0 21 rfl rfl)
theorem dX2_init_22 : decode cX2_init 22 = .ok (.invokespecial 11, 3) := dk_183 0 11 (dk_at dksX2_init_1 0 rfl rfl)
theorem dX2_init_25 : decode cX2_init 25 = .ok (.putfield 20, 3) := dk_181 0 20 (dk_at dksX2_init_1 3 rfl rfl)
theorem dX2_init_28 : decode cX2_init 28 = .ok (.aload_n 0, 1) := dk_42 (dk_at dksX2_init_1 6 rfl rfl)
theorem dX2_init_29 : decode cX2_init 29 = .ok (.new 9, 3) := dk_187 0 9 (dk_at dksX2_init_1 7 rfl rfl)
theorem dX2_init_32 : decode cX2_init 32 = .ok (.dup, 1) := dk_89 (dk_at dksX2_init_1 10 rfl rfl)
theorem dX2_init_33 : decode cX2_init 33 = .ok (.iconst 2, 1) := dk_5 (dk_at dksX2_init_1 11 rfl rfl)
theorem dX2_init_34 : decode cX2_init 34 = .ok (.invokespecial 11, 3) := dk_183 0 11 (dk_at dksX2_init_1 12 rfl rfl)
theorem dX2_init_37 : decode cX2_init 37 = .ok (.putfield 23, 3) := dk_181 0 23 (dk_at dksX2_init_1 15 rfl rfl)
theorem dX2_init_40 : decode cX2_init 40 = .ok (.aload_n 0, 1) := dk_42 (dk_at dksX2_init_1 18 rfl rfl)
theorem dX2_init_41 : decode cX2_init 41 = .ok (.iconst 4, 1) := dk_7 (dk_at dksX2_init_1 19 rfl rfl)
theorem dX2_init_42 : decode cX2_init 42 = .ok (.putfield 26, 3) := dk_181 0 26 (dk_at dksX2_init_1 20 rfl rfl)
theorem dX2_init_45 : decode cX2_init 45 = .ok (.aload_n 0, 1) := dk_42 (dk_at dksX2_init_1 23 rfl rfl)
theorem dX2_init_46 : decode cX2_init 46 = .ok (.bipush 8, 2) := dk_16 8 (dk_at dksX2_init_2 0 rfl rfl)
theorem dX2_init_48 : decode cX2_init 48 = .ok (.putfield 30, 3) := dk_181 0 30 (dk_at dksX2_init_2 2 rfl rfl)
theorem dX2_init_51 : decode cX2_init 51 = .ok (.return_, 1) := dk_177 (dk_at dksX2_init_2 5 rfl rfl)
abbrev cX2_high : ByteArray := prog_18_method_2_code
def yX2_high : MethodName := ⟨RX2, "high", "(I)I"⟩
def dkwX2_high_0 : List UInt8 := [42, 180, 0, 14, 27, 182, 0, 33, 192, 0, 37, 180, 0, 39, 172]
abbrev dktX2_high_0 : List UInt8 := dkwX2_high_0 ++ []
theorem dksX2_high_0 : cX2_high.data.toList.drop 0 = dktX2_high_0 := by decide +kernel
theorem dX2_high_0 : decode cX2_high 0 = .ok (.aload_n 0, 1) := dk_42 (dk_at dksX2_high_0 0 rfl rfl)
theorem dX2_high_1 : decode cX2_high 1 = .ok (.getfield 14, 3) := dk_180 0 14 (dk_at dksX2_high_0 1 rfl rfl)
theorem dX2_high_4 : decode cX2_high 4 = .ok (.iload_n 1, 1) := dk_27 (dk_at dksX2_high_0 4 rfl rfl)
theorem dX2_high_5 : decode cX2_high 5 = .ok (.invokevirtual 33, 3) := dk_182 0 33 (dk_at dksX2_high_0 5 rfl rfl)
theorem dX2_high_8 : decode cX2_high 8 = .ok (.checkcast 37, 3) := dk_192 0 37 (dk_at dksX2_high_0 8 rfl rfl)
theorem dX2_high_11 : decode cX2_high 11 = .ok (.getfield 39, 3) := dk_180 0 39 (dk_at dksX2_high_0 11 rfl rfl)
theorem dX2_high_14 : decode cX2_high 14 = .ok (.ireturn, 1) := dk_172 (dk_at dksX2_high_0 14 rfl rfl)
abbrev cX2_wished : ByteArray := prog_18_method_3_code
def yX2_wished : MethodName := ⟨RX2, "wished", "(II)I"⟩
def dkwX2_wished_2 : List UInt8 := [162, 0, 14, 45, 180, 0, 53, 27, 6, 112, 46, 167, 0, 4, 2, 172]
abbrev dktX2_wished_2 : List UInt8 := dkwX2_wished_2 ++ []
def dkwX2_wished_1 : List UInt8 := [182, 0, 33, 192, 0, 37, 78, 45, 28, 182, 0, 46, 153, 0, 24, 27, 6, 112, 45, 180, 0, 50]
abbrev dktX2_wished_1 : List UInt8 := dkwX2_wished_1 ++ dktX2_wished_2
def dkwX2_wished_0 : List UInt8 := [27, 6, 108, 42, 180, 0, 14, 182, 0, 42, 161, 0, 5, 2, 172, 42, 180, 0, 14, 27, 6, 108]
abbrev dktX2_wished_0 : List UInt8 := dkwX2_wished_0 ++ dktX2_wished_1
theorem dksX2_wished_0 : cX2_wished.data.toList.drop 0 = dktX2_wished_0 := by decide +kernel
theorem dksX2_wished_1 : cX2_wished.data.toList.drop 22 = dktX2_wished_1 := dk_seg dksX2_wished_0 22 rfl rfl
theorem dksX2_wished_2 : cX2_wished.data.toList.drop 44 = dktX2_wished_2 := dk_seg dksX2_wished_1 22 rfl rfl
theorem dX2_wished_0 : decode cX2_wished 0 = .ok (.iload_n 1, 1) := dk_27 (dk_at dksX2_wished_0 0 rfl rfl)
theorem dX2_wished_1 : decode cX2_wished 1 = .ok (.iconst 3, 1) := dk_6 (dk_at dksX2_wished_0 1 rfl rfl)
theorem dX2_wished_2 : decode cX2_wished 2 = .ok (.idiv, 1) := dk_108 (dk_at dksX2_wished_0 2 rfl rfl)
theorem dX2_wished_3 : decode cX2_wished 3 = .ok (.aload_n 0, 1) := dk_42 (dk_at dksX2_wished_0 3 rfl rfl)
theorem dX2_wished_4 : decode cX2_wished 4 = .ok (.getfield 14, 3) := dk_180 0 14 (dk_at dksX2_wished_0 4 rfl rfl)
theorem dX2_wished_7 : decode cX2_wished 7 = .ok (.invokevirtual 42, 3) := dk_182 0 42 (dk_at dksX2_wished_0 7 rfl rfl)
theorem dX2_wished_10 : decode cX2_wished 10 = .ok (.if_icmp .lt 5, 3) := dk_161 0 5 (dk_at dksX2_wished_0 10 rfl rfl)
theorem dX2_wished_13 : decode cX2_wished 13 = .ok (.iconst (-1), 1) := dk_2 (dk_at dksX2_wished_0 13 rfl rfl)
theorem dX2_wished_14 : decode cX2_wished 14 = .ok (.ireturn, 1) := dk_172 (dk_at dksX2_wished_0 14 rfl rfl)
theorem dX2_wished_15 : decode cX2_wished 15 = .ok (.aload_n 0, 1) := dk_42 (dk_at dksX2_wished_0 15 rfl rfl)
theorem dX2_wished_16 : decode cX2_wished 16 = .ok (.getfield 14, 3) := dk_180 0 14 (dk_at dksX2_wished_0 16 rfl rfl)
theorem dX2_wished_19 : decode cX2_wished 19 = .ok (.iload_n 1, 1) := dk_27 (dk_at dksX2_wished_0 19 rfl rfl)
theorem dX2_wished_20 : decode cX2_wished 20 = .ok (.iconst 3, 1) := dk_6 (dk_at dksX2_wished_0 20 rfl rfl)
theorem dX2_wished_21 : decode cX2_wished 21 = .ok (.idiv, 1) := dk_108 (dk_at dksX2_wished_0 21 rfl rfl)
theorem dX2_wished_22 : decode cX2_wished 22 = .ok (.invokevirtual 33, 3) := dk_182 0 33 (dk_at dksX2_wished_1 0 rfl rfl)
theorem dX2_wished_25 : decode cX2_wished 25 = .ok (.checkcast 37, 3) := dk_192 0 37 (dk_at dksX2_wished_1 3 rfl rfl)
theorem dX2_wished_28 : decode cX2_wished 28 = .ok (.astore_n 3, 1) := dk_78 (dk_at dksX2_wished_1 6 rfl rfl)
theorem dX2_wished_29 : decode cX2_wished 29 = .ok (.aload_n 3, 1) := dk_45 (dk_at dksX2_wished_1 7 rfl rfl)
theorem dX2_wished_30 : decode cX2_wished 30 = .ok (.iload_n 2, 1) := dk_28 (dk_at dksX2_wished_1 8 rfl rfl)
theorem dX2_wished_31 : decode cX2_wished 31 = .ok (.invokevirtual 46, 3) := dk_182 0 46 (dk_at dksX2_wished_1 9 rfl rfl)
theorem dX2_wished_34 : decode cX2_wished 34 = .ok (.ifCond .eq 24, 3) := dk_153 0 24 (dk_at dksX2_wished_1 12 rfl rfl)
theorem dX2_wished_37 : decode cX2_wished 37 = .ok (.iload_n 1, 1) := dk_27 (dk_at dksX2_wished_1 15 rfl rfl)
theorem dX2_wished_38 : decode cX2_wished 38 = .ok (.iconst 3, 1) := dk_6 (dk_at dksX2_wished_1 16 rfl rfl)
theorem dX2_wished_39 : decode cX2_wished 39 = .ok (.irem, 1) := dk_112 (dk_at dksX2_wished_1 17 rfl rfl)
theorem dX2_wished_40 : decode cX2_wished 40 = .ok (.aload_n 3, 1) := dk_45 (dk_at dksX2_wished_1 18 rfl rfl)
theorem dX2_wished_41 : decode cX2_wished 41 = .ok (.getfield 50, 3) := dk_180 0 50 (dk_at dksX2_wished_1 19 rfl rfl)
theorem dX2_wished_44 : decode cX2_wished 44 = .ok (.if_icmp .ge 14, 3) := dk_162 0 14 (dk_at dksX2_wished_2 0 rfl rfl)
theorem dX2_wished_47 : decode cX2_wished 47 = .ok (.aload_n 3, 1) := dk_45 (dk_at dksX2_wished_2 3 rfl rfl)
theorem dX2_wished_48 : decode cX2_wished 48 = .ok (.getfield 53, 3) := dk_180 0 53 (dk_at dksX2_wished_2 4 rfl rfl)
theorem dX2_wished_51 : decode cX2_wished 51 = .ok (.iload_n 1, 1) := dk_27 (dk_at dksX2_wished_2 7 rfl rfl)
theorem dX2_wished_52 : decode cX2_wished 52 = .ok (.iconst 3, 1) := dk_6 (dk_at dksX2_wished_2 8 rfl rfl)
theorem dX2_wished_53 : decode cX2_wished 53 = .ok (.irem, 1) := dk_112 (dk_at dksX2_wished_2 9 rfl rfl)
theorem dX2_wished_54 : decode cX2_wished 54 = .ok (.iaload, 1) := dk_46 (dk_at dksX2_wished_2 10 rfl rfl)
theorem dX2_wished_55 : decode cX2_wished 55 = .ok (.goto 4, 3) := dk_167 0 4 (dk_at dksX2_wished_2 11 rfl rfl)
theorem dX2_wished_58 : decode cX2_wished 58 = .ok (.iconst (-1), 1) := dk_2 (dk_at dksX2_wished_2 14 rfl rfl)
theorem dX2_wished_59 : decode cX2_wished 59 = .ok (.ireturn, 1) := dk_172 (dk_at dksX2_wished_2 15 rfl rfl)
theorem q131 : (Jvm.Cond.initialized "StoneYear$Town") ∈ lw_all := lw_g (lw_at lw_m1 3 rfl) rfl
theorem q183 : (Jvm.Cond.instantiable "StoneYear$Town" (8 : Nat)) ∈ lw_all := lw_g (lw_at lw_m1 55 rfl) rfl
theorem q185 : (Jvm.Cond.instanceMethod ({ cls := "StoneYear$Town", name := "<init>", desc := "()V" } : Jvm.MethodName)) ∈ lw_all := lw_g (lw_at lw_m1 57 rfl) rfl
theorem q186 : (Jvm.Cond.code ({ cls := "StoneYear$Town", name := "<init>", desc := "()V" } : Jvm.MethodName) prog_18_method_1_code (1 : Nat) (Option.none : Option Jvm.ClassFile.FieldType)) ∈ lw_all := lw_g (lw_at lw_m1 58 rfl) rfl
theorem q187 : (Jvm.Cond.methodLink "StoneYear$Town" (3 : Nat) ({ cls := "java/lang/Object", name := "<init>", desc := "()V" } : Jvm.MethodName)) ∈ lw_all := lw_g (lw_at lw_m1 59 rfl) rfl
theorem q188 : (Jvm.Cond.classLink "StoneYear$Town" (9 : Nat) "java/util/ArrayList") ∈ lw_all := lw_g (lw_at lw_m1 60 rfl) rfl
theorem q190 : (Jvm.Cond.methodLink "StoneYear$Town" (11 : Nat) ({ cls := "java/util/ArrayList", name := "<init>", desc := "(I)V" } : Jvm.MethodName)) ∈ lw_all := lw_g (lw_at lw_m1 62 rfl) rfl
theorem q216 : (Jvm.Cond.fieldLink "StoneYear$Town" (14 : Nat) "StoneYear$Town" "rows" "Ljava/util/ArrayList;") ∈ lw_all := lw_g (lw_at lw_m1 88 rfl) rfl
theorem q220 : (Jvm.Cond.fieldLink "StoneYear$Town" (20 : Nat) "StoneYear$Town" "stones" "Ljava/util/ArrayList;") ∈ lw_all := lw_g (lw_at lw_m1 92 rfl) rfl
theorem q226 : (Jvm.Cond.fieldLink "StoneYear$Town" (23 : Nat) "StoneYear$Town" "musts" "Ljava/util/ArrayList;") ∈ lw_all := lw_g (lw_at lw_m1 98 rfl) rfl
theorem q230 : (Jvm.Cond.fieldLink "StoneYear$Town" (26 : Nat) "StoneYear$Town" "over" "I") ∈ lw_all := lw_g (lw_at lw_m1 102 rfl) rfl
theorem q234 : (Jvm.Cond.fieldLink "StoneYear$Town" (30 : Nat) "StoneYear$Town" "most" "I") ∈ lw_all := lw_g (lw_at lw_m1 106 rfl) rfl
theorem q245 : (Jvm.Cond.laysFinal "StoneYear$Town" "StoneYear$Town" "rows" "Ljava/util/ArrayList;") ∈ lw_all := lw_g (lw_at lw_m1 117 rfl) rfl
theorem q246 : (Jvm.Cond.soleField "StoneYear$Town" "rows") ∈ lw_all := lw_g (lw_at lw_m1 118 rfl) rfl
theorem q247 : (Jvm.Cond.laysFinal "StoneYear$Town" "StoneYear$Town" "stones" "Ljava/util/ArrayList;") ∈ lw_all := lw_g (lw_at lw_m1 119 rfl) rfl
theorem q248 : (Jvm.Cond.soleField "StoneYear$Town" "stones") ∈ lw_all := lw_g (lw_at lw_m1 120 rfl) rfl
theorem q249 : (Jvm.Cond.laysFinal "StoneYear$Town" "StoneYear$Town" "musts" "Ljava/util/ArrayList;") ∈ lw_all := lw_g (lw_at lw_m1 121 rfl) rfl
theorem q250 : (Jvm.Cond.soleField "StoneYear$Town" "musts") ∈ lw_all := lw_g (lw_at lw_m1 122 rfl) rfl
theorem q251 : (Jvm.Cond.lays "StoneYear$Town" "StoneYear$Town" "over" "I") ∈ lw_all := lw_g (lw_at lw_m1 123 rfl) rfl
theorem q252 : (Jvm.Cond.soleField "StoneYear$Town" "over") ∈ lw_all := lw_g (lw_at lw_m1 124 rfl) rfl
theorem q253 : (Jvm.Cond.lays "StoneYear$Town" "StoneYear$Town" "most" "I") ∈ lw_all := lw_g (lw_at lw_m1 125 rfl) rfl
theorem q254 : (Jvm.Cond.soleField "StoneYear$Town" "most") ∈ lw_all := lw_g (lw_at lw_m1 126 rfl) rfl
theorem q255 : (Jvm.Cond.lays "StoneYear$Town" "StoneYear$Town" "lines" "I") ∈ lw_all := lw_g (lw_at lw_m1 127 rfl) rfl
theorem q256 : (Jvm.Cond.soleField "StoneYear$Town" "lines") ∈ lw_all := lw_g (lw_at lw_m1 128 rfl) rfl
theorem q257 : (Jvm.Cond.lays "StoneYear$Town" "StoneYear$Town" "rings" "Z") ∈ lw_all := lw_g (lw_at lw_m1 129 rfl) rfl
theorem q258 : (Jvm.Cond.soleField "StoneYear$Town" "rings") ∈ lw_all := lw_g (lw_at lw_m1 130 rfl) rfl
theorem q259 : (Jvm.Cond.lays "StoneYear$Town" "StoneYear$Town" "floods" "Z") ∈ lw_all := lw_g (lw_at lw_m1 131 rfl) rfl
theorem q260 : (Jvm.Cond.soleField "StoneYear$Town" "floods") ∈ lw_all := lw_g (lw_at lw_m1 132 rfl) rfl
theorem q261 : (Jvm.Cond.superclass "StoneYear$Town" "java/lang/Object") ∈ lw_all := lw_g (lw_at lw_m1 133 rfl) rfl
theorem q686 : (Jvm.Cond.fieldLinkNest "StoneYear$Town" (39 : Nat) "StoneYear$Row" "high" "I" "StoneYear") ∈ lw_tbl := lw_at lw_m3 78 rfl
theorem q690 : (Jvm.Cond.fieldLinkNest "StoneYear$Town" (53 : Nat) "StoneYear$Row" "wish" "[I" "StoneYear") ∈ lw_tbl := lw_at lw_m3 82 rfl
theorem q695 : (Jvm.Cond.fieldLinkNest "StoneYear$Town" (50 : Nat) "StoneYear$Row" "wished" "I" "StoneYear") ∈ lw_tbl := lw_at lw_m3 87 rfl
theorem q763 : (Jvm.Cond.selects "StoneYear$Town" ({ cls := "java/lang/Object", name := "getClass", desc := "()Ljava/lang/Class;" } : Jvm.MethodName) ({ cls := "java/lang/Object", name := "getClass", desc := "()Ljava/lang/Class;" } : Jvm.MethodName)) ∈ lw_all := lw_g (lw_at lw_m3 155 rfl) rfl
theorem q1042 : (Jvm.Cond.instanceMethod ({ cls := "StoneYear$Town", name := "high", desc := "(I)I" } : Jvm.MethodName)) ∈ lw_all := lw_g (lw_at lw_m4 194 rfl) rfl
theorem q1043 : (Jvm.Cond.selects "StoneYear$Town" ({ cls := "StoneYear$Town", name := "high", desc := "(I)I" } : Jvm.MethodName) ({ cls := "StoneYear$Town", name := "high", desc := "(I)I" } : Jvm.MethodName)) ∈ lw_all := lw_g (lw_at lw_m4 195 rfl) rfl
theorem q1044 : (Jvm.Cond.code ({ cls := "StoneYear$Town", name := "high", desc := "(I)I" } : Jvm.MethodName) prog_18_method_2_code (2 : Nat) (Option.some Jvm.ClassFile.FieldType.int)) ∈ lw_all := lw_g (lw_at lw_m4 196 rfl) rfl
theorem q1045 : (Jvm.Cond.methodLink "StoneYear$Town" (33 : Nat) ({ cls := "java/util/ArrayList", name := "get", desc := "(I)Ljava/lang/Object;" } : Jvm.MethodName)) ∈ lw_all := lw_g (lw_at lw_m4 197 rfl) rfl
theorem q1046 : (Jvm.Cond.classLink "StoneYear$Town" (37 : Nat) "StoneYear$Row") ∈ lw_all := lw_g (lw_at lw_m4 198 rfl) rfl
theorem q1179 : (Jvm.Cond.instanceMethod ({ cls := "StoneYear$Town", name := "wished", desc := "(II)I" } : Jvm.MethodName)) ∈ lw_all := lw_g (lw_at lw_m5 91 rfl) rfl
theorem q1180 : (Jvm.Cond.selects "StoneYear$Town" ({ cls := "StoneYear$Town", name := "wished", desc := "(II)I" } : Jvm.MethodName) ({ cls := "StoneYear$Town", name := "wished", desc := "(II)I" } : Jvm.MethodName)) ∈ lw_all := lw_g (lw_at lw_m5 92 rfl) rfl
theorem q1181 : (Jvm.Cond.code ({ cls := "StoneYear$Town", name := "wished", desc := "(II)I" } : Jvm.MethodName) prog_18_method_3_code (4 : Nat) (Option.some Jvm.ClassFile.FieldType.int)) ∈ lw_all := lw_g (lw_at lw_m5 93 rfl) rfl
theorem q1182 : (Jvm.Cond.methodLink "StoneYear$Town" (42 : Nat) ({ cls := "java/util/ArrayList", name := "size", desc := "()I" } : Jvm.MethodName)) ∈ lw_all := lw_g (lw_at lw_m5 94 rfl) rfl
theorem q1183 : (Jvm.Cond.methodLink "StoneYear$Town" (46 : Nat) ({ cls := "StoneYear$Row", name := "isAsked", desc := "(I)Z" } : Jvm.MethodName)) ∈ lw_all := lw_g (lw_at lw_m5 95 rfl) rfl
theorem q2237 : (Jvm.Cond.castable "StoneYear$Town" "java/lang/Object") ∈ lw_tbl := lw_at lw_m9 189 rfl
theorem in_X2 : ∀ w ∈ wsX20, w ∈ lw_all := lw_in wsX20 [245, 247, 249, 251, 253, 255, 257, 259] (by decide +kernel) (by decide +kernel)
/-! StoneYear$Going -/
set_option maxRecDepth 100000
def RX3 : String := "StoneYear$Going"
def TX3 : u_T := fun k => match k with
  | 0 => ("StoneYear$Going", "sort", "I", false)
  | 1 => ("StoneYear$Going", "size", "I", false)
  | 2 => ("StoneYear$Going", "from", "I", false)
  | 3 => ("StoneYear$Going", "to", "I", false)
  | 4 => ("StoneYear$Going", "level", "I", false)
  | _ => ("StoneYear$Going", "full", "I", false)
def tyX3 : Nat → FieldType := fun k => match k with
  | 0 => .int
  | 1 => .int
  | 2 => .int
  | 3 => .int
  | 4 => .int
  | _ => .int
abbrev wsX30 : List Cond := u_ws RX3 TX3 6
theorem nmX3 : ∀ a, a < 6 → ∀ b, b < 6 → a ≠ b → (TX3 a).2.1 ≠ (TX3 b).2.1 := by decide +kernel
theorem tyX3_ok : ∀ k, k < 6 → parseFieldDescriptor (TX3 k).2.2.1 = some (tyX3 k) := by decide +kernel
abbrev cX3_init : ByteArray := prog_5_method_1_code
def yX3_init : MethodName := ⟨RX3, "<init>", "()V"⟩
theorem dX3_init_0 : decode cX3_init 0 = .ok (.aload_n 0, 1) := by decide +kernel
theorem dX3_init_1 : decode cX3_init 1 = .ok (.invokespecial 1, 3) := by decide +kernel
theorem dX3_init_4 : decode cX3_init 4 = .ok (.return_, 1) := by decide +kernel
theorem q135 : (Jvm.Cond.initialized "StoneYear$Going") ∈ lw_all := lw_g (lw_at lw_m1 7 rfl) rfl
theorem q295 : (Jvm.Cond.instantiable "StoneYear$Going" (6 : Nat)) ∈ lw_all := lw_g (lw_at lw_m1 167 rfl) rfl
theorem q297 : (Jvm.Cond.instanceMethod ({ cls := "StoneYear$Going", name := "<init>", desc := "()V" } : Jvm.MethodName)) ∈ lw_all := lw_g (lw_at lw_m1 169 rfl) rfl
theorem q298 : (Jvm.Cond.code ({ cls := "StoneYear$Going", name := "<init>", desc := "()V" } : Jvm.MethodName) prog_5_method_1_code (1 : Nat) (Option.none : Option Jvm.ClassFile.FieldType)) ∈ lw_all := lw_g (lw_at lw_m1 170 rfl) rfl
theorem q299 : (Jvm.Cond.methodLink "StoneYear$Going" (1 : Nat) ({ cls := "java/lang/Object", name := "<init>", desc := "()V" } : Jvm.MethodName)) ∈ lw_all := lw_g (lw_at lw_m1 171 rfl) rfl
theorem q312 : (Jvm.Cond.lays "StoneYear$Going" "StoneYear$Going" "sort" "I") ∈ lw_all := lw_g (lw_at lw_m1 184 rfl) rfl
theorem q313 : (Jvm.Cond.soleField "StoneYear$Going" "sort") ∈ lw_all := lw_g (lw_at lw_m1 185 rfl) rfl
theorem q314 : (Jvm.Cond.lays "StoneYear$Going" "StoneYear$Going" "size" "I") ∈ lw_all := lw_g (lw_at lw_m1 186 rfl) rfl
theorem q315 : (Jvm.Cond.soleField "StoneYear$Going" "size") ∈ lw_all := lw_g (lw_at lw_m1 187 rfl) rfl
theorem q316 : (Jvm.Cond.lays "StoneYear$Going" "StoneYear$Going" "from" "I") ∈ lw_all := lw_g (lw_at lw_m1 188 rfl) rfl
theorem q317 : (Jvm.Cond.soleField "StoneYear$Going" "from") ∈ lw_all := lw_g (lw_at lw_m1 189 rfl) rfl
theorem q318 : (Jvm.Cond.lays "StoneYear$Going" "StoneYear$Going" "to" "I") ∈ lw_all := lw_g (lw_at lw_m1 190 rfl) rfl
theorem q319 : (Jvm.Cond.soleField "StoneYear$Going" "to") ∈ lw_all := lw_g (lw_at lw_m1 191 rfl) rfl
theorem q320 : (Jvm.Cond.lays "StoneYear$Going" "StoneYear$Going" "level" "I") ∈ lw_all := lw_g (lw_at lw_m1 192 rfl) rfl
theorem q321 : (Jvm.Cond.soleField "StoneYear$Going" "level") ∈ lw_all := lw_g (lw_at lw_m1 193 rfl) rfl
theorem q322 : (Jvm.Cond.lays "StoneYear$Going" "StoneYear$Going" "full" "I") ∈ lw_all := lw_g (lw_at lw_m1 194 rfl) rfl
theorem q323 : (Jvm.Cond.soleField "StoneYear$Going" "full") ∈ lw_all := lw_g (lw_at lw_m1 195 rfl) rfl
theorem q324 : (Jvm.Cond.superclass "StoneYear$Going" "java/lang/Object") ∈ lw_all := lw_g (lw_at lw_m1 196 rfl) rfl
theorem q751 : (Jvm.Cond.selects "StoneYear$Going" ({ cls := "java/lang/Object", name := "getClass", desc := "()Ljava/lang/Class;" } : Jvm.MethodName) ({ cls := "java/lang/Object", name := "getClass", desc := "()Ljava/lang/Class;" } : Jvm.MethodName)) ∈ lw_all := lw_g (lw_at lw_m3 143 rfl) rfl
theorem q2239 : (Jvm.Cond.castable "StoneYear$Going" "java/lang/Object") ∈ lw_tbl := lw_at lw_m9 191 rfl
theorem in_X3 : ∀ w ∈ wsX30, w ∈ lw_all := lw_in wsX30 [312, 314, 316, 318, 320, 322] (by decide +kernel) (by decide +kernel)
/-! StoneYear$Stacks -/
set_option maxRecDepth 100000
def RX4 : String := "StoneYear$Stacks"
def TX4 : u_T := fun k => match k with
  | 0 => ("StoneYear$Stacks", "at", "[I", true)
  | 1 => ("StoneYear$Stacks", "many", "[I", true)
  | 2 => ("StoneYear$Stacks", "moved", "I", false)
  | 3 => ("StoneYear$Stacks", "without", "I", false)
  | 4 => ("StoneYear$Stacks", "town", "LStoneYear$Town;", false)
  | _ => ("StoneYear$Stacks", "this$0", "LStoneYear;", true)
def tyX4 : Nat → FieldType := fun k => match k with
  | 0 => .array .int
  | 1 => .array .int
  | 2 => .int
  | 3 => .int
  | 4 => .object "StoneYear$Town"
  | _ => .object "StoneYear"
abbrev wsX40 : List Cond := u_ws RX4 TX4 6
theorem nmX4 : ∀ a, a < 6 → ∀ b, b < 6 → a ≠ b → (TX4 a).2.1 ≠ (TX4 b).2.1 := by decide +kernel
theorem tyX4_ok : ∀ k, k < 6 → parseFieldDescriptor (TX4 k).2.2.1 = some (tyX4 k) := by decide +kernel
abbrev cX4_init : ByteArray := prog_14_method_1_code
def yX4_init : MethodName := ⟨RX4, "<init>", "(LStoneYear;)V"⟩
def dkwX4_init_1 : List UInt8 := [42, 2, 181, 0, 22, 177]
abbrev dktX4_init_1 : List UInt8 := dkwX4_init_1 ++ []
def dkwX4_init_0 : List UInt8 := [42, 43, 181, 0, 3, 42, 183, 0, 9, 42, 16, 15, 188, 10, 181, 0, 15, 42, 8, 188, 10, 181, 0, 19]
abbrev dktX4_init_0 : List UInt8 := dkwX4_init_0 ++ dktX4_init_1
theorem dksX4_init_0 : cX4_init.data.toList.drop 0 = dktX4_init_0 := by decide +kernel
theorem dksX4_init_1 : cX4_init.data.toList.drop 24 = dktX4_init_1 := dk_seg dksX4_init_0 24 rfl rfl
theorem dX4_init_0 : decode cX4_init 0 = .ok (.aload_n 0, 1) := dk_42 (dk_at dksX4_init_0 0 rfl rfl)
theorem dX4_init_1 : decode cX4_init 1 = .ok (.aload_n 1, 1) := dk_43 (dk_at dksX4_init_0 1 rfl rfl)
theorem dX4_init_2 : decode cX4_init 2 = .ok (.putfield 3, 3) := dk_181 0 3 (dk_at dksX4_init_0 2 rfl rfl)
theorem dX4_init_5 : decode cX4_init 5 = .ok (.aload_n 0, 1) := dk_42 (dk_at dksX4_init_0 5 rfl rfl)
theorem dX4_init_6 : decode cX4_init 6 = .ok (.invokespecial 9, 3) := dk_183 0 9 (dk_at dksX4_init_0 6 rfl rfl)
theorem dX4_init_9 : decode cX4_init 9 = .ok (.aload_n 0, 1) := dk_42 (dk_at dksX4_init_0 9 rfl rfl)
theorem dX4_init_10 : decode cX4_init 10 = .ok (.bipush 15, 2) := dk_16 15 (dk_at dksX4_init_0 10 rfl rfl)
theorem dX4_init_12 : decode cX4_init 12 = .ok (.newarray .int, 2) := dk_188_10 (dk_at dksX4_init_0 12 rfl rfl)
theorem dX4_init_14 : decode cX4_init 14 = .ok (.putfield 15, 3) := dk_181 0 15 (dk_at dksX4_init_0 14 rfl rfl)
theorem dX4_init_17 : decode cX4_init 17 = .ok (.aload_n 0, 1) := dk_42 (dk_at dksX4_init_0 17 rfl rfl)
theorem dX4_init_18 : decode cX4_init 18 = .ok (.iconst 5, 1) := dk_8 (dk_at dksX4_init_0 18 rfl rfl)
theorem dX4_init_19 : decode cX4_init 19 = .ok (.newarray .int, 2) := dk_188_10 (dk_at dksX4_init_0 19 rfl rfl)
theorem dX4_init_21 : decode cX4_init 21 = .ok (.putfield 19, 3) := dk_181 0 19 (dk_at dksX4_init_0 21 rfl rfl)
theorem dX4_init_24 : decode cX4_init 24 = .ok (.aload_n 0, 1) := dk_42 (dk_at dksX4_init_1 0 rfl rfl)
theorem dX4_init_25 : decode cX4_init 25 = .ok (.iconst (-1), 1) := dk_2 (dk_at dksX4_init_1 1 rfl rfl)
theorem dX4_init_26 : decode cX4_init 26 = .ok (.putfield 22, 3) := dk_181 0 22 (dk_at dksX4_init_1 2 rfl rfl)
theorem dX4_init_29 : decode cX4_init 29 = .ok (.return_, 1) := dk_177 (dk_at dksX4_init_1 5 rfl rfl)
abbrev cX4_lays : ByteArray := prog_14_method_2_code
def yX4_lays : MethodName := ⟨RX4, "lays", "(LStoneYear$Town;J)LStoneYear$Stacks;"⟩
def dkwX4_lays_5 : List UInt8 := [132, 4, 1, 167, 255, 201, 42, 176]
abbrev dktX4_lays_5 : List UInt8 := dkwX4_lays_5 ++ []
def dkwX4_lays_4 : List UInt8 := [42, 180, 0, 15, 21, 5, 21, 4, 79, 42, 180, 0, 19, 21, 5, 6, 108, 92, 46, 4, 96, 79]
abbrev dktX4_lays_4 : List UInt8 := dkwX4_lays_4 ++ dktX4_lays_5
def dkwX4_lays_3 : List UInt8 := [182, 0, 39, 162, 0, 49, 32, 21, 4, 184, 0, 45, 54, 5, 21, 5, 16, 15, 160, 0, 6, 167, 0, 25]
abbrev dktX4_lays_3 : List UInt8 := dkwX4_lays_3 ++ dktX4_lays_4
def dkwX4_lays_2 : List UInt8 := [180, 0, 15, 21, 4, 2, 79, 132, 4, 1, 167, 255, 238, 3, 54, 4, 21, 4, 43, 180, 0, 33]
abbrev dktX4_lays_2 : List UInt8 := dkwX4_lays_2 ++ dktX4_lays_3
def dkwX4_lays_1 : List UInt8 := [180, 0, 19, 21, 4, 3, 79, 132, 4, 1, 167, 255, 239, 3, 54, 4, 21, 4, 16, 15, 162, 0, 17, 42]
abbrev dktX4_lays_1 : List UInt8 := dkwX4_lays_1 ++ dktX4_lays_2
def dkwX4_lays_0 : List UInt8 := [42, 43, 181, 0, 26, 42, 32, 16, 32, 123, 136, 181, 0, 30, 3, 54, 4, 21, 4, 8, 162, 0, 17, 42]
abbrev dktX4_lays_0 : List UInt8 := dkwX4_lays_0 ++ dktX4_lays_1
theorem dksX4_lays_0 : cX4_lays.data.toList.drop 0 = dktX4_lays_0 := by decide +kernel
theorem dksX4_lays_1 : cX4_lays.data.toList.drop 24 = dktX4_lays_1 := dk_seg dksX4_lays_0 24 rfl rfl
theorem dksX4_lays_2 : cX4_lays.data.toList.drop 48 = dktX4_lays_2 := dk_seg dksX4_lays_1 24 rfl rfl
theorem dksX4_lays_3 : cX4_lays.data.toList.drop 70 = dktX4_lays_3 := dk_seg dksX4_lays_2 22 rfl rfl
theorem dksX4_lays_4 : cX4_lays.data.toList.drop 94 = dktX4_lays_4 := dk_seg dksX4_lays_3 24 rfl rfl
theorem dksX4_lays_5 : cX4_lays.data.toList.drop 116 = dktX4_lays_5 := dk_seg dksX4_lays_4 22 rfl rfl
theorem dX4_lays_0 : decode cX4_lays 0 = .ok (.aload_n 0, 1) := dk_42 (dk_at dksX4_lays_0 0 rfl rfl)
theorem dX4_lays_1 : decode cX4_lays 1 = .ok (.aload_n 1, 1) := dk_43 (dk_at dksX4_lays_0 1 rfl rfl)
theorem dX4_lays_2 : decode cX4_lays 2 = .ok (.putfield 26, 3) := dk_181 0 26 (dk_at dksX4_lays_0 2 rfl rfl)
theorem dX4_lays_5 : decode cX4_lays 5 = .ok (.aload_n 0, 1) := dk_42 (dk_at dksX4_lays_0 5 rfl rfl)
theorem dX4_lays_6 : decode cX4_lays 6 = .ok (.lload_n 2, 1) := dk_32 (dk_at dksX4_lays_0 6 rfl rfl)
theorem dX4_lays_7 : decode cX4_lays 7 = .ok (.bipush 32, 2) := dk_16 32 (dk_at dksX4_lays_0 7 rfl rfl)
theorem dX4_lays_9 : decode cX4_lays 9 = .ok (.lshr, 1) := dk_123 (dk_at dksX4_lays_0 9 rfl rfl)
theorem dX4_lays_10 : decode cX4_lays 10 = .ok (.l2i, 1) := dk_136 (dk_at dksX4_lays_0 10 rfl rfl)
theorem dX4_lays_11 : decode cX4_lays 11 = .ok (.putfield 30, 3) := dk_181 0 30 (dk_at dksX4_lays_0 11 rfl rfl)
theorem dX4_lays_14 : decode cX4_lays 14 = .ok (.iconst 0, 1) := dk_3 (dk_at dksX4_lays_0 14 rfl rfl)
theorem dX4_lays_15 : decode cX4_lays 15 = .ok (.istore 4, 2) := dk_54 4 (dk_at dksX4_lays_0 15 rfl rfl)
theorem dX4_lays_17 : decode cX4_lays 17 = .ok (.iload 4, 2) := dk_21 4 (dk_at dksX4_lays_0 17 rfl rfl)
theorem dX4_lays_19 : decode cX4_lays 19 = .ok (.iconst 5, 1) := dk_8 (dk_at dksX4_lays_0 19 rfl rfl)
theorem dX4_lays_20 : decode cX4_lays 20 = .ok (.if_icmp .ge 17, 3) := dk_162 0 17 (dk_at dksX4_lays_0 20 rfl rfl)
theorem dX4_lays_23 : decode cX4_lays 23 = .ok (.aload_n 0, 1) := dk_42 (dk_at dksX4_lays_0 23 rfl rfl)
theorem dX4_lays_24 : decode cX4_lays 24 = .ok (.getfield 19, 3) := dk_180 0 19 (dk_at dksX4_lays_1 0 rfl rfl)
theorem dX4_lays_27 : decode cX4_lays 27 = .ok (.iload 4, 2) := dk_21 4 (dk_at dksX4_lays_1 3 rfl rfl)
theorem dX4_lays_29 : decode cX4_lays 29 = .ok (.iconst 0, 1) := dk_3 (dk_at dksX4_lays_1 5 rfl rfl)
theorem dX4_lays_30 : decode cX4_lays 30 = .ok (.iastore, 1) := dk_79 (dk_at dksX4_lays_1 6 rfl rfl)
theorem dX4_lays_31 : decode cX4_lays 31 = .ok (.iinc 4 1, 3) := dk_132 4 1 (dk_at dksX4_lays_1 7 rfl rfl)
theorem dX4_lays_34 : decode cX4_lays 34 = .ok (.goto (-17), 3) := dk_167 255 239 (dk_at dksX4_lays_1 10 rfl rfl)
theorem dX4_lays_37 : decode cX4_lays 37 = .ok (.iconst 0, 1) := dk_3 (dk_at dksX4_lays_1 13 rfl rfl)
theorem dX4_lays_38 : decode cX4_lays 38 = .ok (.istore 4, 2) := dk_54 4 (dk_at dksX4_lays_1 14 rfl rfl)
theorem dX4_lays_40 : decode cX4_lays 40 = .ok (.iload 4, 2) := dk_21 4 (dk_at dksX4_lays_1 16 rfl rfl)
theorem dX4_lays_42 : decode cX4_lays 42 = .ok (.bipush 15, 2) := dk_16 15 (dk_at dksX4_lays_1 18 rfl rfl)
theorem dX4_lays_44 : decode cX4_lays 44 = .ok (.if_icmp .ge 17, 3) := dk_162 0 17 (dk_at dksX4_lays_1 20 rfl rfl)
theorem dX4_lays_47 : decode cX4_lays 47 = .ok (.aload_n 0, 1) := dk_42 (dk_at dksX4_lays_1 23 rfl rfl)
theorem dX4_lays_48 : decode cX4_lays 48 = .ok (.getfield 15, 3) := dk_180 0 15 (dk_at dksX4_lays_2 0 rfl rfl)
theorem dX4_lays_51 : decode cX4_lays 51 = .ok (.iload 4, 2) := dk_21 4 (dk_at dksX4_lays_2 3 rfl rfl)
theorem dX4_lays_53 : decode cX4_lays 53 = .ok (.iconst (-1), 1) := dk_2 (dk_at dksX4_lays_2 5 rfl rfl)
theorem dX4_lays_54 : decode cX4_lays 54 = .ok (.iastore, 1) := dk_79 (dk_at dksX4_lays_2 6 rfl rfl)
theorem dX4_lays_55 : decode cX4_lays 55 = .ok (.iinc 4 1, 3) := dk_132 4 1 (dk_at dksX4_lays_2 7 rfl rfl)
theorem dX4_lays_58 : decode cX4_lays 58 = .ok (.goto (-18), 3) := dk_167 255 238 (dk_at dksX4_lays_2 10 rfl rfl)
theorem dX4_lays_61 : decode cX4_lays 61 = .ok (.iconst 0, 1) := dk_3 (dk_at dksX4_lays_2 13 rfl rfl)
theorem dX4_lays_62 : decode cX4_lays 62 = .ok (.istore 4, 2) := dk_54 4 (dk_at dksX4_lays_2 14 rfl rfl)
theorem dX4_lays_64 : decode cX4_lays 64 = .ok (.iload 4, 2) := dk_21 4 (dk_at dksX4_lays_2 16 rfl rfl)
theorem dX4_lays_66 : decode cX4_lays 66 = .ok (.aload_n 1, 1) := dk_43 (dk_at dksX4_lays_2 18 rfl rfl)
theorem dX4_lays_67 : decode cX4_lays 67 = .ok (.getfield 33, 3) := dk_180 0 33 (dk_at dksX4_lays_2 19 rfl rfl)
theorem dX4_lays_70 : decode cX4_lays 70 = .ok (.invokevirtual 39, 3) := dk_182 0 39 (dk_at dksX4_lays_3 0 rfl rfl)
theorem dX4_lays_73 : decode cX4_lays 73 = .ok (.if_icmp .ge 49, 3) := dk_162 0 49 (dk_at dksX4_lays_3 3 rfl rfl)
theorem dX4_lays_76 : decode cX4_lays 76 = .ok (.lload_n 2, 1) := dk_32 (dk_at dksX4_lays_3 6 rfl rfl)
theorem dX4_lays_77 : decode cX4_lays 77 = .ok (.iload 4, 2) := dk_21 4 (dk_at dksX4_lays_3 7 rfl rfl)
theorem dX4_lays_79 : decode cX4_lays 79 = .ok (.invokestatic 45, 3) := dk_184 0 45 (dk_at dksX4_lays_3 9 rfl rfl)
theorem dX4_lays_82 : decode cX4_lays 82 = .ok (.istore 5, 2) := dk_54 5 (dk_at dksX4_lays_3 12 rfl rfl)
theorem dX4_lays_84 : decode cX4_lays 84 = .ok (.iload 5, 2) := dk_21 5 (dk_at dksX4_lays_3 14 rfl rfl)
theorem dX4_lays_86 : decode cX4_lays 86 = .ok (.bipush 15, 2) := dk_16 15 (dk_at dksX4_lays_3 16 rfl rfl)
theorem dX4_lays_88 : decode cX4_lays 88 = .ok (.if_icmp .ne 6, 3) := dk_160 0 6 (dk_at dksX4_lays_3 18 rfl rfl)
theorem dX4_lays_91 : decode cX4_lays 91 = .ok (.goto 25, 3) := dk_167 0 25 (dk_at dksX4_lays_3 21 rfl rfl)
theorem dX4_lays_94 : decode cX4_lays 94 = .ok (.aload_n 0, 1) := dk_42 (dk_at dksX4_lays_4 0 rfl rfl)
theorem dX4_lays_95 : decode cX4_lays 95 = .ok (.getfield 15, 3) := dk_180 0 15 (dk_at dksX4_lays_4 1 rfl rfl)
theorem dX4_lays_98 : decode cX4_lays 98 = .ok (.iload 5, 2) := dk_21 5 (dk_at dksX4_lays_4 4 rfl rfl)
theorem dX4_lays_100 : decode cX4_lays 100 = .ok (.iload 4, 2) := dk_21 4 (dk_at dksX4_lays_4 6 rfl rfl)
theorem dX4_lays_102 : decode cX4_lays 102 = .ok (.iastore, 1) := dk_79 (dk_at dksX4_lays_4 8 rfl rfl)
theorem dX4_lays_103 : decode cX4_lays 103 = .ok (.aload_n 0, 1) := dk_42 (dk_at dksX4_lays_4 9 rfl rfl)
theorem dX4_lays_104 : decode cX4_lays 104 = .ok (.getfield 19, 3) := dk_180 0 19 (dk_at dksX4_lays_4 10 rfl rfl)
theorem dX4_lays_107 : decode cX4_lays 107 = .ok (.iload 5, 2) := dk_21 5 (dk_at dksX4_lays_4 13 rfl rfl)
theorem dX4_lays_109 : decode cX4_lays 109 = .ok (.iconst 3, 1) := dk_6 (dk_at dksX4_lays_4 15 rfl rfl)
theorem dX4_lays_110 : decode cX4_lays 110 = .ok (.idiv, 1) := dk_108 (dk_at dksX4_lays_4 16 rfl rfl)
theorem dX4_lays_111 : decode cX4_lays 111 = .ok (.dup2, 1) := dk_92 (dk_at dksX4_lays_4 17 rfl rfl)
theorem dX4_lays_112 : decode cX4_lays 112 = .ok (.iaload, 1) := dk_46 (dk_at dksX4_lays_4 18 rfl rfl)
theorem dX4_lays_113 : decode cX4_lays 113 = .ok (.iconst 1, 1) := dk_4 (dk_at dksX4_lays_4 19 rfl rfl)
theorem dX4_lays_114 : decode cX4_lays 114 = .ok (.iadd, 1) := dk_96 (dk_at dksX4_lays_4 20 rfl rfl)
theorem dX4_lays_115 : decode cX4_lays 115 = .ok (.iastore, 1) := dk_79 (dk_at dksX4_lays_4 21 rfl rfl)
theorem dX4_lays_116 : decode cX4_lays 116 = .ok (.iinc 4 1, 3) := dk_132 4 1 (dk_at dksX4_lays_5 0 rfl rfl)
theorem dX4_lays_119 : decode cX4_lays 119 = .ok (.goto (-55), 3) := dk_167 255 201 (dk_at dksX4_lays_5 3 rfl rfl)
theorem dX4_lays_122 : decode cX4_lays 122 = .ok (.aload_n 0, 1) := dk_42 (dk_at dksX4_lays_5 6 rfl rfl)
theorem dX4_lays_123 : decode cX4_lays 123 = .ok (.areturn, 1) := dk_176 (dk_at dksX4_lays_5 7 rfl rfl)
abbrev cX4_broken : ByteArray := prog_14_method_10_code
def yX4_broken : MethodName := ⟨RX4, "broken", "(II)I"⟩
def dkwX4_broken_4 : List UInt8 := [2, 172]
abbrev dktX4_broken_4 : List UInt8 := dkwX4_broken_4 ++ []
def dkwX4_broken_3 : List UInt8 := [28, 160, 0, 7, 4, 167, 0, 4, 3, 100, 182, 0, 131, 154, 0, 5, 29, 172, 132, 3, 1, 167, 255, 165]
abbrev dktX4_broken_3 : List UInt8 := dkwX4_broken_3 ++ dktX4_broken_4
def dkwX4_broken_2 : List UInt8 := [180, 0, 128, 46, 25, 4, 180, 0, 128, 27, 160, 0, 7, 4, 167, 0, 4, 3, 96, 25, 4, 180, 0, 128]
abbrev dktX4_broken_2 : List UInt8 := dkwX4_broken_2 ++ dktX4_broken_3
def dkwX4_broken_1 : List UInt8 := [182, 0, 56, 192, 0, 126, 58, 4, 29, 42, 180, 0, 22, 159, 0, 53, 25, 4, 42, 180, 0, 19, 25, 4]
abbrev dktX4_broken_1 : List UInt8 := dkwX4_broken_1 ++ dktX4_broken_2
def dkwX4_broken_0 : List UInt8 := [3, 62, 29, 42, 180, 0, 26, 180, 0, 123, 182, 0, 39, 162, 0, 83, 42, 180, 0, 26, 180, 0, 123, 29]
abbrev dktX4_broken_0 : List UInt8 := dkwX4_broken_0 ++ dktX4_broken_1
theorem dksX4_broken_0 : cX4_broken.data.toList.drop 0 = dktX4_broken_0 := by decide +kernel
theorem dksX4_broken_1 : cX4_broken.data.toList.drop 24 = dktX4_broken_1 := dk_seg dksX4_broken_0 24 rfl rfl
theorem dksX4_broken_2 : cX4_broken.data.toList.drop 48 = dktX4_broken_2 := dk_seg dksX4_broken_1 24 rfl rfl
theorem dksX4_broken_3 : cX4_broken.data.toList.drop 72 = dktX4_broken_3 := dk_seg dksX4_broken_2 24 rfl rfl
theorem dksX4_broken_4 : cX4_broken.data.toList.drop 96 = dktX4_broken_4 := dk_seg dksX4_broken_3 24 rfl rfl
theorem dX4_broken_0 : decode cX4_broken 0 = .ok (.iconst 0, 1) := dk_3 (dk_at dksX4_broken_0 0 rfl rfl)
theorem dX4_broken_1 : decode cX4_broken 1 = .ok (.istore_n 3, 1) := dk_62 (dk_at dksX4_broken_0 1 rfl rfl)
theorem dX4_broken_2 : decode cX4_broken 2 = .ok (.iload_n 3, 1) := dk_29 (dk_at dksX4_broken_0 2 rfl rfl)
theorem dX4_broken_3 : decode cX4_broken 3 = .ok (.aload_n 0, 1) := dk_42 (dk_at dksX4_broken_0 3 rfl rfl)
theorem dX4_broken_4 : decode cX4_broken 4 = .ok (.getfield 26, 3) := dk_180 0 26 (dk_at dksX4_broken_0 4 rfl rfl)
theorem dX4_broken_7 : decode cX4_broken 7 = .ok (.getfield 123, 3) := dk_180 0 123 (dk_at dksX4_broken_0 7 rfl rfl)
theorem dX4_broken_10 : decode cX4_broken 10 = .ok (.invokevirtual 39, 3) := dk_182 0 39 (dk_at dksX4_broken_0 10 rfl rfl)
theorem dX4_broken_13 : decode cX4_broken 13 = .ok (.if_icmp .ge 83, 3) := dk_162 0 83 (dk_at dksX4_broken_0 13 rfl rfl)
theorem dX4_broken_16 : decode cX4_broken 16 = .ok (.aload_n 0, 1) := dk_42 (dk_at dksX4_broken_0 16 rfl rfl)
theorem dX4_broken_17 : decode cX4_broken 17 = .ok (.getfield 26, 3) := dk_180 0 26 (dk_at dksX4_broken_0 17 rfl rfl)
theorem dX4_broken_20 : decode cX4_broken 20 = .ok (.getfield 123, 3) := dk_180 0 123 (dk_at dksX4_broken_0 20 rfl rfl)
theorem dX4_broken_23 : decode cX4_broken 23 = .ok (.iload_n 3, 1) := dk_29 (dk_at dksX4_broken_0 23 rfl rfl)
theorem dX4_broken_24 : decode cX4_broken 24 = .ok (.invokevirtual 56, 3) := dk_182 0 56 (dk_at dksX4_broken_1 0 rfl rfl)
theorem dX4_broken_27 : decode cX4_broken 27 = .ok (.checkcast 126, 3) := dk_192 0 126 (dk_at dksX4_broken_1 3 rfl rfl)
theorem dX4_broken_30 : decode cX4_broken 30 = .ok (.astore 4, 2) := dk_58 4 (dk_at dksX4_broken_1 6 rfl rfl)
theorem dX4_broken_32 : decode cX4_broken 32 = .ok (.iload_n 3, 1) := dk_29 (dk_at dksX4_broken_1 8 rfl rfl)
theorem dX4_broken_33 : decode cX4_broken 33 = .ok (.aload_n 0, 1) := dk_42 (dk_at dksX4_broken_1 9 rfl rfl)
theorem dX4_broken_34 : decode cX4_broken 34 = .ok (.getfield 22, 3) := dk_180 0 22 (dk_at dksX4_broken_1 10 rfl rfl)
theorem dX4_broken_37 : decode cX4_broken 37 = .ok (.if_icmp .eq 53, 3) := dk_159 0 53 (dk_at dksX4_broken_1 13 rfl rfl)
theorem dX4_broken_40 : decode cX4_broken 40 = .ok (.aload 4, 2) := dk_25 4 (dk_at dksX4_broken_1 16 rfl rfl)
theorem dX4_broken_42 : decode cX4_broken 42 = .ok (.aload_n 0, 1) := dk_42 (dk_at dksX4_broken_1 18 rfl rfl)
theorem dX4_broken_43 : decode cX4_broken 43 = .ok (.getfield 19, 3) := dk_180 0 19 (dk_at dksX4_broken_1 19 rfl rfl)
theorem dX4_broken_46 : decode cX4_broken 46 = .ok (.aload 4, 2) := dk_25 4 (dk_at dksX4_broken_1 22 rfl rfl)
theorem dX4_broken_48 : decode cX4_broken 48 = .ok (.getfield 128, 3) := dk_180 0 128 (dk_at dksX4_broken_2 0 rfl rfl)
theorem dX4_broken_51 : decode cX4_broken 51 = .ok (.iaload, 1) := dk_46 (dk_at dksX4_broken_2 3 rfl rfl)
theorem dX4_broken_52 : decode cX4_broken 52 = .ok (.aload 4, 2) := dk_25 4 (dk_at dksX4_broken_2 4 rfl rfl)
theorem dX4_broken_54 : decode cX4_broken 54 = .ok (.getfield 128, 3) := dk_180 0 128 (dk_at dksX4_broken_2 6 rfl rfl)
theorem dX4_broken_57 : decode cX4_broken 57 = .ok (.iload_n 1, 1) := dk_27 (dk_at dksX4_broken_2 9 rfl rfl)
theorem dX4_broken_58 : decode cX4_broken 58 = .ok (.if_icmp .ne 7, 3) := dk_160 0 7 (dk_at dksX4_broken_2 10 rfl rfl)
theorem dX4_broken_61 : decode cX4_broken 61 = .ok (.iconst 1, 1) := dk_4 (dk_at dksX4_broken_2 13 rfl rfl)
theorem dX4_broken_62 : decode cX4_broken 62 = .ok (.goto 4, 3) := dk_167 0 4 (dk_at dksX4_broken_2 14 rfl rfl)
theorem dX4_broken_65 : decode cX4_broken 65 = .ok (.iconst 0, 1) := dk_3 (dk_at dksX4_broken_2 17 rfl rfl)
theorem dX4_broken_66 : decode cX4_broken 66 = .ok (.iadd, 1) := dk_96 (dk_at dksX4_broken_2 18 rfl rfl)
theorem dX4_broken_67 : decode cX4_broken 67 = .ok (.aload 4, 2) := dk_25 4 (dk_at dksX4_broken_2 19 rfl rfl)
theorem dX4_broken_69 : decode cX4_broken 69 = .ok (.getfield 128, 3) := dk_180 0 128 (dk_at dksX4_broken_2 21 rfl rfl)
theorem dX4_broken_72 : decode cX4_broken 72 = .ok (.iload_n 2, 1) := dk_28 (dk_at dksX4_broken_3 0 rfl rfl)
theorem dX4_broken_73 : decode cX4_broken 73 = .ok (.if_icmp .ne 7, 3) := dk_160 0 7 (dk_at dksX4_broken_3 1 rfl rfl)
theorem dX4_broken_76 : decode cX4_broken 76 = .ok (.iconst 1, 1) := dk_4 (dk_at dksX4_broken_3 4 rfl rfl)
theorem dX4_broken_77 : decode cX4_broken 77 = .ok (.goto 4, 3) := dk_167 0 4 (dk_at dksX4_broken_3 5 rfl rfl)
theorem dX4_broken_80 : decode cX4_broken 80 = .ok (.iconst 0, 1) := dk_3 (dk_at dksX4_broken_3 8 rfl rfl)
theorem dX4_broken_81 : decode cX4_broken 81 = .ok (.isub, 1) := dk_100 (dk_at dksX4_broken_3 9 rfl rfl)
theorem dX4_broken_82 : decode cX4_broken 82 = .ok (.invokevirtual 131, 3) := dk_182 0 131 (dk_at dksX4_broken_3 10 rfl rfl)
theorem dX4_broken_85 : decode cX4_broken 85 = .ok (.ifCond .ne 5, 3) := dk_154 0 5 (dk_at dksX4_broken_3 13 rfl rfl)
theorem dX4_broken_88 : decode cX4_broken 88 = .ok (.iload_n 3, 1) := dk_29 (dk_at dksX4_broken_3 16 rfl rfl)
theorem dX4_broken_89 : decode cX4_broken 89 = .ok (.ireturn, 1) := dk_172 (dk_at dksX4_broken_3 17 rfl rfl)
theorem dX4_broken_90 : decode cX4_broken 90 = .ok (.iinc 3 1, 3) := dk_132 3 1 (dk_at dksX4_broken_3 18 rfl rfl)
theorem dX4_broken_93 : decode cX4_broken 93 = .ok (.goto (-91), 3) := dk_167 255 165 (dk_at dksX4_broken_3 21 rfl rfl)
theorem dX4_broken_96 : decode cX4_broken 96 = .ok (.iconst (-1), 1) := dk_2 (dk_at dksX4_broken_4 0 rfl rfl)
theorem dX4_broken_97 : decode cX4_broken 97 = .ok (.ireturn, 1) := dk_172 (dk_at dksX4_broken_4 1 rfl rfl)
abbrev cX4_may : ByteArray := prog_14_method_11_code
def yX4_may : MethodName := ⟨RX4, "may", "(II)I"⟩
def dkwX4_may_6 : List UInt8 := [180, 0, 30, 184, 0, 157, 42, 180, 0, 26, 180, 0, 162, 161, 0, 8, 16, 9, 167, 0, 4, 3, 172]
abbrev dktX4_may_6 : List UInt8 := dkwX4_may_6 ++ []
def dkwX4_may_5 : List UInt8 := [182, 0, 151, 153, 0, 6, 16, 7, 172, 42, 28, 27, 182, 0, 154, 2, 159, 0, 6, 16, 8, 172, 42]
abbrev dktX4_may_5 : List UInt8 := dkwX4_may_5 ++ dktX4_may_6
def dkwX4_may_4 : List UInt8 := [182, 0, 82, 182, 0, 67, 182, 0, 148, 154, 0, 6, 16, 6, 172, 42, 27, 28, 42, 180, 0, 19, 28, 46]
abbrev dktX4_may_4 : List UInt8 := dkwX4_may_4 ++ dktX4_may_5
def dkwX4_may_3 : List UInt8 := [42, 27, 28, 182, 0, 145, 154, 0, 5, 8, 172, 42, 28, 42, 180, 0, 19, 28, 46, 42, 42, 27]
abbrev dktX4_may_3 : List UInt8 := dkwX4_may_3 ++ dktX4_may_4
def dkwX4_may_2 : List UInt8 := [153, 0, 5, 6, 172, 42, 180, 0, 19, 28, 46, 42, 180, 0, 26, 28, 182, 0, 142, 160, 0, 5, 7, 172]
abbrev dktX4_may_2 : List UInt8 := dkwX4_may_2 ++ dktX4_may_3
def dkwX4_may_1 : List UInt8 := [180, 0, 19, 27, 46, 154, 0, 5, 5, 172, 42, 180, 0, 30, 42, 27, 182, 0, 82, 184, 0, 138]
abbrev dktX4_may_1 : List UInt8 := dkwX4_may_1 ++ dktX4_may_2
def dkwX4_may_0 : List UInt8 := [42, 27, 182, 0, 135, 153, 0, 16, 42, 28, 182, 0, 135, 153, 0, 8, 27, 28, 160, 0, 5, 4, 172, 42]
abbrev dktX4_may_0 : List UInt8 := dkwX4_may_0 ++ dktX4_may_1
theorem dksX4_may_0 : cX4_may.data.toList.drop 0 = dktX4_may_0 := by decide +kernel
theorem dksX4_may_1 : cX4_may.data.toList.drop 24 = dktX4_may_1 := dk_seg dksX4_may_0 24 rfl rfl
theorem dksX4_may_2 : cX4_may.data.toList.drop 46 = dktX4_may_2 := dk_seg dksX4_may_1 22 rfl rfl
theorem dksX4_may_3 : cX4_may.data.toList.drop 70 = dktX4_may_3 := dk_seg dksX4_may_2 24 rfl rfl
theorem dksX4_may_4 : cX4_may.data.toList.drop 92 = dktX4_may_4 := dk_seg dksX4_may_3 22 rfl rfl
theorem dksX4_may_5 : cX4_may.data.toList.drop 116 = dktX4_may_5 := dk_seg dksX4_may_4 24 rfl rfl
theorem dksX4_may_6 : cX4_may.data.toList.drop 139 = dktX4_may_6 := dk_seg dksX4_may_5 23 rfl rfl
theorem dX4_may_0 : decode cX4_may 0 = .ok (.aload_n 0, 1) := dk_42 (dk_at dksX4_may_0 0 rfl rfl)
theorem dX4_may_1 : decode cX4_may 1 = .ok (.iload_n 1, 1) := dk_27 (dk_at dksX4_may_0 1 rfl rfl)
theorem dX4_may_2 : decode cX4_may 2 = .ok (.invokevirtual 135, 3) := dk_182 0 135 (dk_at dksX4_may_0 2 rfl rfl)
theorem dX4_may_5 : decode cX4_may 5 = .ok (.ifCond .eq 16, 3) := dk_153 0 16 (dk_at dksX4_may_0 5 rfl rfl)
theorem dX4_may_8 : decode cX4_may 8 = .ok (.aload_n 0, 1) := dk_42 (dk_at dksX4_may_0 8 rfl rfl)
theorem dX4_may_9 : decode cX4_may 9 = .ok (.iload_n 2, 1) := dk_28 (dk_at dksX4_may_0 9 rfl rfl)
theorem dX4_may_10 : decode cX4_may 10 = .ok (.invokevirtual 135, 3) := dk_182 0 135 (dk_at dksX4_may_0 10 rfl rfl)
theorem dX4_may_13 : decode cX4_may 13 = .ok (.ifCond .eq 8, 3) := dk_153 0 8 (dk_at dksX4_may_0 13 rfl rfl)
theorem dX4_may_16 : decode cX4_may 16 = .ok (.iload_n 1, 1) := dk_27 (dk_at dksX4_may_0 16 rfl rfl)
theorem dX4_may_17 : decode cX4_may 17 = .ok (.iload_n 2, 1) := dk_28 (dk_at dksX4_may_0 17 rfl rfl)
theorem dX4_may_18 : decode cX4_may 18 = .ok (.if_icmp .ne 5, 3) := dk_160 0 5 (dk_at dksX4_may_0 18 rfl rfl)
theorem dX4_may_21 : decode cX4_may 21 = .ok (.iconst 1, 1) := dk_4 (dk_at dksX4_may_0 21 rfl rfl)
theorem dX4_may_22 : decode cX4_may 22 = .ok (.ireturn, 1) := dk_172 (dk_at dksX4_may_0 22 rfl rfl)
theorem dX4_may_23 : decode cX4_may 23 = .ok (.aload_n 0, 1) := dk_42 (dk_at dksX4_may_0 23 rfl rfl)
theorem dX4_may_24 : decode cX4_may 24 = .ok (.getfield 19, 3) := dk_180 0 19 (dk_at dksX4_may_1 0 rfl rfl)
theorem dX4_may_27 : decode cX4_may 27 = .ok (.iload_n 1, 1) := dk_27 (dk_at dksX4_may_1 3 rfl rfl)
theorem dX4_may_28 : decode cX4_may 28 = .ok (.iaload, 1) := dk_46 (dk_at dksX4_may_1 4 rfl rfl)
theorem dX4_may_29 : decode cX4_may 29 = .ok (.ifCond .ne 5, 3) := dk_154 0 5 (dk_at dksX4_may_1 5 rfl rfl)
theorem dX4_may_32 : decode cX4_may 32 = .ok (.iconst 2, 1) := dk_5 (dk_at dksX4_may_1 8 rfl rfl)
theorem dX4_may_33 : decode cX4_may 33 = .ok (.ireturn, 1) := dk_172 (dk_at dksX4_may_1 9 rfl rfl)
theorem dX4_may_34 : decode cX4_may 34 = .ok (.aload_n 0, 1) := dk_42 (dk_at dksX4_may_1 10 rfl rfl)
theorem dX4_may_35 : decode cX4_may 35 = .ok (.getfield 30, 3) := dk_180 0 30 (dk_at dksX4_may_1 11 rfl rfl)
theorem dX4_may_38 : decode cX4_may 38 = .ok (.aload_n 0, 1) := dk_42 (dk_at dksX4_may_1 14 rfl rfl)
theorem dX4_may_39 : decode cX4_may 39 = .ok (.iload_n 1, 1) := dk_27 (dk_at dksX4_may_1 15 rfl rfl)
theorem dX4_may_40 : decode cX4_may 40 = .ok (.invokevirtual 82, 3) := dk_182 0 82 (dk_at dksX4_may_1 16 rfl rfl)
theorem dX4_may_43 : decode cX4_may 43 = .ok (.invokestatic 138, 3) := dk_184 0 138 (dk_at dksX4_may_1 19 rfl rfl)
theorem dX4_may_46 : decode cX4_may 46 = .ok (.ifCond .eq 5, 3) := dk_153 0 5 (dk_at dksX4_may_2 0 rfl rfl)
theorem dX4_may_49 : decode cX4_may 49 = .ok (.iconst 3, 1) := dk_6 (dk_at dksX4_may_2 3 rfl rfl)
theorem dX4_may_50 : decode cX4_may 50 = .ok (.ireturn, 1) := dk_172 (dk_at dksX4_may_2 4 rfl rfl)
theorem dX4_may_51 : decode cX4_may 51 = .ok (.aload_n 0, 1) := dk_42 (dk_at dksX4_may_2 5 rfl rfl)
theorem dX4_may_52 : decode cX4_may 52 = .ok (.getfield 19, 3) := dk_180 0 19 (dk_at dksX4_may_2 6 rfl rfl)
theorem dX4_may_55 : decode cX4_may 55 = .ok (.iload_n 2, 1) := dk_28 (dk_at dksX4_may_2 9 rfl rfl)
theorem dX4_may_56 : decode cX4_may 56 = .ok (.iaload, 1) := dk_46 (dk_at dksX4_may_2 10 rfl rfl)
theorem dX4_may_57 : decode cX4_may 57 = .ok (.aload_n 0, 1) := dk_42 (dk_at dksX4_may_2 11 rfl rfl)
theorem dX4_may_58 : decode cX4_may 58 = .ok (.getfield 26, 3) := dk_180 0 26 (dk_at dksX4_may_2 12 rfl rfl)
theorem dX4_may_61 : decode cX4_may 61 = .ok (.iload_n 2, 1) := dk_28 (dk_at dksX4_may_2 15 rfl rfl)
theorem dX4_may_62 : decode cX4_may 62 = .ok (.invokevirtual 142, 3) := dk_182 0 142 (dk_at dksX4_may_2 16 rfl rfl)
theorem dX4_may_65 : decode cX4_may 65 = .ok (.if_icmp .ne 5, 3) := dk_160 0 5 (dk_at dksX4_may_2 19 rfl rfl)
theorem dX4_may_68 : decode cX4_may 68 = .ok (.iconst 4, 1) := dk_7 (dk_at dksX4_may_2 22 rfl rfl)
theorem dX4_may_69 : decode cX4_may 69 = .ok (.ireturn, 1) := dk_172 (dk_at dksX4_may_2 23 rfl rfl)
theorem dX4_may_70 : decode cX4_may 70 = .ok (.aload_n 0, 1) := dk_42 (dk_at dksX4_may_3 0 rfl rfl)
theorem dX4_may_71 : decode cX4_may 71 = .ok (.iload_n 1, 1) := dk_27 (dk_at dksX4_may_3 1 rfl rfl)
theorem dX4_may_72 : decode cX4_may 72 = .ok (.iload_n 2, 1) := dk_28 (dk_at dksX4_may_3 2 rfl rfl)
theorem dX4_may_73 : decode cX4_may 73 = .ok (.invokevirtual 145, 3) := dk_182 0 145 (dk_at dksX4_may_3 3 rfl rfl)
theorem dX4_may_76 : decode cX4_may 76 = .ok (.ifCond .ne 5, 3) := dk_154 0 5 (dk_at dksX4_may_3 6 rfl rfl)
theorem dX4_may_79 : decode cX4_may 79 = .ok (.iconst 5, 1) := dk_8 (dk_at dksX4_may_3 9 rfl rfl)
theorem dX4_may_80 : decode cX4_may 80 = .ok (.ireturn, 1) := dk_172 (dk_at dksX4_may_3 10 rfl rfl)
theorem dX4_may_81 : decode cX4_may 81 = .ok (.aload_n 0, 1) := dk_42 (dk_at dksX4_may_3 11 rfl rfl)
theorem dX4_may_82 : decode cX4_may 82 = .ok (.iload_n 2, 1) := dk_28 (dk_at dksX4_may_3 12 rfl rfl)
theorem dX4_may_83 : decode cX4_may 83 = .ok (.aload_n 0, 1) := dk_42 (dk_at dksX4_may_3 13 rfl rfl)
theorem dX4_may_84 : decode cX4_may 84 = .ok (.getfield 19, 3) := dk_180 0 19 (dk_at dksX4_may_3 14 rfl rfl)
theorem dX4_may_87 : decode cX4_may 87 = .ok (.iload_n 2, 1) := dk_28 (dk_at dksX4_may_3 17 rfl rfl)
theorem dX4_may_88 : decode cX4_may 88 = .ok (.iaload, 1) := dk_46 (dk_at dksX4_may_3 18 rfl rfl)
theorem dX4_may_89 : decode cX4_may 89 = .ok (.aload_n 0, 1) := dk_42 (dk_at dksX4_may_3 19 rfl rfl)
theorem dX4_may_90 : decode cX4_may 90 = .ok (.aload_n 0, 1) := dk_42 (dk_at dksX4_may_3 20 rfl rfl)
theorem dX4_may_91 : decode cX4_may 91 = .ok (.iload_n 1, 1) := dk_27 (dk_at dksX4_may_3 21 rfl rfl)
theorem dX4_may_92 : decode cX4_may 92 = .ok (.invokevirtual 82, 3) := dk_182 0 82 (dk_at dksX4_may_4 0 rfl rfl)
theorem dX4_may_95 : decode cX4_may 95 = .ok (.invokevirtual 67, 3) := dk_182 0 67 (dk_at dksX4_may_4 3 rfl rfl)
theorem dX4_may_98 : decode cX4_may 98 = .ok (.invokevirtual 148, 3) := dk_182 0 148 (dk_at dksX4_may_4 6 rfl rfl)
theorem dX4_may_101 : decode cX4_may 101 = .ok (.ifCond .ne 6, 3) := dk_154 0 6 (dk_at dksX4_may_4 9 rfl rfl)
theorem dX4_may_104 : decode cX4_may 104 = .ok (.bipush 6, 2) := dk_16 6 (dk_at dksX4_may_4 12 rfl rfl)
theorem dX4_may_106 : decode cX4_may 106 = .ok (.ireturn, 1) := dk_172 (dk_at dksX4_may_4 14 rfl rfl)
theorem dX4_may_107 : decode cX4_may 107 = .ok (.aload_n 0, 1) := dk_42 (dk_at dksX4_may_4 15 rfl rfl)
theorem dX4_may_108 : decode cX4_may 108 = .ok (.iload_n 1, 1) := dk_27 (dk_at dksX4_may_4 16 rfl rfl)
theorem dX4_may_109 : decode cX4_may 109 = .ok (.iload_n 2, 1) := dk_28 (dk_at dksX4_may_4 17 rfl rfl)
theorem dX4_may_110 : decode cX4_may 110 = .ok (.aload_n 0, 1) := dk_42 (dk_at dksX4_may_4 18 rfl rfl)
theorem dX4_may_111 : decode cX4_may 111 = .ok (.getfield 19, 3) := dk_180 0 19 (dk_at dksX4_may_4 19 rfl rfl)
theorem dX4_may_114 : decode cX4_may 114 = .ok (.iload_n 2, 1) := dk_28 (dk_at dksX4_may_4 22 rfl rfl)
theorem dX4_may_115 : decode cX4_may 115 = .ok (.iaload, 1) := dk_46 (dk_at dksX4_may_4 23 rfl rfl)
theorem dX4_may_116 : decode cX4_may 116 = .ok (.invokevirtual 151, 3) := dk_182 0 151 (dk_at dksX4_may_5 0 rfl rfl)
theorem dX4_may_119 : decode cX4_may 119 = .ok (.ifCond .eq 6, 3) := dk_153 0 6 (dk_at dksX4_may_5 3 rfl rfl)
theorem dX4_may_122 : decode cX4_may 122 = .ok (.bipush 7, 2) := dk_16 7 (dk_at dksX4_may_5 6 rfl rfl)
theorem dX4_may_124 : decode cX4_may 124 = .ok (.ireturn, 1) := dk_172 (dk_at dksX4_may_5 8 rfl rfl)
theorem dX4_may_125 : decode cX4_may 125 = .ok (.aload_n 0, 1) := dk_42 (dk_at dksX4_may_5 9 rfl rfl)
theorem dX4_may_126 : decode cX4_may 126 = .ok (.iload_n 2, 1) := dk_28 (dk_at dksX4_may_5 10 rfl rfl)
theorem dX4_may_127 : decode cX4_may 127 = .ok (.iload_n 1, 1) := dk_27 (dk_at dksX4_may_5 11 rfl rfl)
theorem dX4_may_128 : decode cX4_may 128 = .ok (.invokevirtual 154, 3) := dk_182 0 154 (dk_at dksX4_may_5 12 rfl rfl)
theorem dX4_may_131 : decode cX4_may 131 = .ok (.iconst (-1), 1) := dk_2 (dk_at dksX4_may_5 15 rfl rfl)
theorem dX4_may_132 : decode cX4_may 132 = .ok (.if_icmp .eq 6, 3) := dk_159 0 6 (dk_at dksX4_may_5 16 rfl rfl)
theorem dX4_may_135 : decode cX4_may 135 = .ok (.bipush 8, 2) := dk_16 8 (dk_at dksX4_may_5 19 rfl rfl)
theorem dX4_may_137 : decode cX4_may 137 = .ok (.ireturn, 1) := dk_172 (dk_at dksX4_may_5 21 rfl rfl)
theorem dX4_may_138 : decode cX4_may 138 = .ok (.aload_n 0, 1) := dk_42 (dk_at dksX4_may_5 22 rfl rfl)
theorem dX4_may_139 : decode cX4_may 139 = .ok (.getfield 30, 3) := dk_180 0 30 (dk_at dksX4_may_6 0 rfl rfl)
theorem dX4_may_142 : decode cX4_may 142 = .ok (.invokestatic 157, 3) := dk_184 0 157 (dk_at dksX4_may_6 3 rfl rfl)
theorem dX4_may_145 : decode cX4_may 145 = .ok (.aload_n 0, 1) := dk_42 (dk_at dksX4_may_6 6 rfl rfl)
theorem dX4_may_146 : decode cX4_may 146 = .ok (.getfield 26, 3) := dk_180 0 26 (dk_at dksX4_may_6 7 rfl rfl)
theorem dX4_may_149 : decode cX4_may 149 = .ok (.getfield 162, 3) := dk_180 0 162 (dk_at dksX4_may_6 10 rfl rfl)
theorem dX4_may_152 : decode cX4_may 152 = .ok (.if_icmp .lt 8, 3) := dk_161 0 8 (dk_at dksX4_may_6 13 rfl rfl)
theorem dX4_may_155 : decode cX4_may 155 = .ok (.bipush 9, 2) := dk_16 9 (dk_at dksX4_may_6 16 rfl rfl)
theorem dX4_may_157 : decode cX4_may 157 = .ok (.goto 4, 3) := dk_167 0 4 (dk_at dksX4_may_6 18 rfl rfl)
theorem dX4_may_160 : decode cX4_may 160 = .ok (.iconst 0, 1) := dk_3 (dk_at dksX4_may_6 21 rfl rfl)
theorem dX4_may_161 : decode cX4_may 161 = .ok (.ireturn, 1) := dk_172 (dk_at dksX4_may_6 22 rfl rfl)
abbrev cX4_isRow : ByteArray := prog_14_method_4_code
def yX4_isRow : MethodName := ⟨RX4, "isRow", "(I)Z"⟩
def dkwX4_isRow_0 : List UInt8 := [27, 133, 9, 42, 180, 0, 26, 180, 0, 49, 182, 0, 39, 4, 100, 133, 184, 0, 52, 172]
abbrev dktX4_isRow_0 : List UInt8 := dkwX4_isRow_0 ++ []
theorem dksX4_isRow_0 : cX4_isRow.data.toList.drop 0 = dktX4_isRow_0 := by decide +kernel
theorem dX4_isRow_0 : decode cX4_isRow 0 = .ok (.iload_n 1, 1) := dk_27 (dk_at dksX4_isRow_0 0 rfl rfl)
theorem dX4_isRow_1 : decode cX4_isRow 1 = .ok (.i2l, 1) := dk_133 (dk_at dksX4_isRow_0 1 rfl rfl)
theorem dX4_isRow_2 : decode cX4_isRow 2 = .ok (.lconst 0, 1) := dk_9 (dk_at dksX4_isRow_0 2 rfl rfl)
theorem dX4_isRow_3 : decode cX4_isRow 3 = .ok (.aload_n 0, 1) := dk_42 (dk_at dksX4_isRow_0 3 rfl rfl)
theorem dX4_isRow_4 : decode cX4_isRow 4 = .ok (.getfield 26, 3) := dk_180 0 26 (dk_at dksX4_isRow_0 4 rfl rfl)
theorem dX4_isRow_7 : decode cX4_isRow 7 = .ok (.getfield 49, 3) := dk_180 0 49 (dk_at dksX4_isRow_0 7 rfl rfl)
theorem dX4_isRow_10 : decode cX4_isRow 10 = .ok (.invokevirtual 39, 3) := dk_182 0 39 (dk_at dksX4_isRow_0 10 rfl rfl)
theorem dX4_isRow_13 : decode cX4_isRow 13 = .ok (.iconst 1, 1) := dk_4 (dk_at dksX4_isRow_0 13 rfl rfl)
theorem dX4_isRow_14 : decode cX4_isRow 14 = .ok (.isub, 1) := dk_100 (dk_at dksX4_isRow_0 14 rfl rfl)
theorem dX4_isRow_15 : decode cX4_isRow 15 = .ok (.i2l, 1) := dk_133 (dk_at dksX4_isRow_0 15 rfl rfl)
theorem dX4_isRow_16 : decode cX4_isRow 16 = .ok (.invokestatic 52, 3) := dk_184 0 52 (dk_at dksX4_isRow_0 16 rfl rfl)
theorem dX4_isRow_19 : decode cX4_isRow 19 = .ok (.ireturn, 1) := dk_172 (dk_at dksX4_isRow_0 19 rfl rfl)
abbrev cX4_top : ByteArray := prog_14_method_5_code
def yX4_top : MethodName := ⟨RX4, "top", "(I)I"⟩
def dkwX4_top_0 : List UInt8 := [42, 180, 0, 15, 6, 27, 104, 42, 180, 0, 19, 27, 46, 96, 4, 100, 46, 172]
abbrev dktX4_top_0 : List UInt8 := dkwX4_top_0 ++ []
theorem dksX4_top_0 : cX4_top.data.toList.drop 0 = dktX4_top_0 := by decide +kernel
theorem dX4_top_0 : decode cX4_top 0 = .ok (.aload_n 0, 1) := dk_42 (dk_at dksX4_top_0 0 rfl rfl)
theorem dX4_top_1 : decode cX4_top 1 = .ok (.getfield 15, 3) := dk_180 0 15 (dk_at dksX4_top_0 1 rfl rfl)
theorem dX4_top_4 : decode cX4_top 4 = .ok (.iconst 3, 1) := dk_6 (dk_at dksX4_top_0 4 rfl rfl)
theorem dX4_top_5 : decode cX4_top 5 = .ok (.iload_n 1, 1) := dk_27 (dk_at dksX4_top_0 5 rfl rfl)
theorem dX4_top_6 : decode cX4_top 6 = .ok (.imul, 1) := dk_104 (dk_at dksX4_top_0 6 rfl rfl)
theorem dX4_top_7 : decode cX4_top 7 = .ok (.aload_n 0, 1) := dk_42 (dk_at dksX4_top_0 7 rfl rfl)
theorem dX4_top_8 : decode cX4_top 8 = .ok (.getfield 19, 3) := dk_180 0 19 (dk_at dksX4_top_0 8 rfl rfl)
theorem dX4_top_11 : decode cX4_top 11 = .ok (.iload_n 1, 1) := dk_27 (dk_at dksX4_top_0 11 rfl rfl)
theorem dX4_top_12 : decode cX4_top 12 = .ok (.iaload, 1) := dk_46 (dk_at dksX4_top_0 12 rfl rfl)
theorem dX4_top_13 : decode cX4_top 13 = .ok (.iadd, 1) := dk_96 (dk_at dksX4_top_0 13 rfl rfl)
theorem dX4_top_14 : decode cX4_top 14 = .ok (.iconst 1, 1) := dk_4 (dk_at dksX4_top_0 14 rfl rfl)
theorem dX4_top_15 : decode cX4_top 15 = .ok (.isub, 1) := dk_100 (dk_at dksX4_top_0 15 rfl rfl)
theorem dX4_top_16 : decode cX4_top 16 = .ok (.iaload, 1) := dk_46 (dk_at dksX4_top_0 16 rfl rfl)
theorem dX4_top_17 : decode cX4_top 17 = .ok (.ireturn, 1) := dk_172 (dk_at dksX4_top_0 17 rfl rfl)
abbrev cX4_isFree : ByteArray := prog_14_method_8_code
def yX4_isFree : MethodName := ⟨RX4, "isFree", "(II)Z"⟩
def dkwX4_isFree_1 : List UInt8 := [180, 0, 26, 180, 0, 79, 161, 0, 5, 3, 172, 132, 3, 1, 167, 255, 226, 4, 172]
abbrev dktX4_isFree_1 : List UInt8 := dkwX4_isFree_1 ++ []
def dkwX4_isFree_0 : List UInt8 := [27, 28, 184, 0, 70, 4, 96, 62, 29, 27, 28, 184, 0, 76, 162, 0, 27, 42, 180, 0, 19, 29, 46, 42]
abbrev dktX4_isFree_0 : List UInt8 := dkwX4_isFree_0 ++ dktX4_isFree_1
theorem dksX4_isFree_0 : cX4_isFree.data.toList.drop 0 = dktX4_isFree_0 := by decide +kernel
theorem dksX4_isFree_1 : cX4_isFree.data.toList.drop 24 = dktX4_isFree_1 := dk_seg dksX4_isFree_0 24 rfl rfl
theorem dX4_isFree_0 : decode cX4_isFree 0 = .ok (.iload_n 1, 1) := dk_27 (dk_at dksX4_isFree_0 0 rfl rfl)
theorem dX4_isFree_1 : decode cX4_isFree 1 = .ok (.iload_n 2, 1) := dk_28 (dk_at dksX4_isFree_0 1 rfl rfl)
theorem dX4_isFree_2 : decode cX4_isFree 2 = .ok (.invokestatic 70, 3) := dk_184 0 70 (dk_at dksX4_isFree_0 2 rfl rfl)
theorem dX4_isFree_5 : decode cX4_isFree 5 = .ok (.iconst 1, 1) := dk_4 (dk_at dksX4_isFree_0 5 rfl rfl)
theorem dX4_isFree_6 : decode cX4_isFree 6 = .ok (.iadd, 1) := dk_96 (dk_at dksX4_isFree_0 6 rfl rfl)
theorem dX4_isFree_7 : decode cX4_isFree 7 = .ok (.istore_n 3, 1) := dk_62 (dk_at dksX4_isFree_0 7 rfl rfl)
theorem dX4_isFree_8 : decode cX4_isFree 8 = .ok (.iload_n 3, 1) := dk_29 (dk_at dksX4_isFree_0 8 rfl rfl)
theorem dX4_isFree_9 : decode cX4_isFree 9 = .ok (.iload_n 1, 1) := dk_27 (dk_at dksX4_isFree_0 9 rfl rfl)
theorem dX4_isFree_10 : decode cX4_isFree 10 = .ok (.iload_n 2, 1) := dk_28 (dk_at dksX4_isFree_0 10 rfl rfl)
theorem dX4_isFree_11 : decode cX4_isFree 11 = .ok (.invokestatic 76, 3) := dk_184 0 76 (dk_at dksX4_isFree_0 11 rfl rfl)
theorem dX4_isFree_14 : decode cX4_isFree 14 = .ok (.if_icmp .ge 27, 3) := dk_162 0 27 (dk_at dksX4_isFree_0 14 rfl rfl)
theorem dX4_isFree_17 : decode cX4_isFree 17 = .ok (.aload_n 0, 1) := dk_42 (dk_at dksX4_isFree_0 17 rfl rfl)
theorem dX4_isFree_18 : decode cX4_isFree 18 = .ok (.getfield 19, 3) := dk_180 0 19 (dk_at dksX4_isFree_0 18 rfl rfl)
theorem dX4_isFree_21 : decode cX4_isFree 21 = .ok (.iload_n 3, 1) := dk_29 (dk_at dksX4_isFree_0 21 rfl rfl)
theorem dX4_isFree_22 : decode cX4_isFree 22 = .ok (.iaload, 1) := dk_46 (dk_at dksX4_isFree_0 22 rfl rfl)
theorem dX4_isFree_23 : decode cX4_isFree 23 = .ok (.aload_n 0, 1) := dk_42 (dk_at dksX4_isFree_0 23 rfl rfl)
theorem dX4_isFree_24 : decode cX4_isFree 24 = .ok (.getfield 26, 3) := dk_180 0 26 (dk_at dksX4_isFree_1 0 rfl rfl)
theorem dX4_isFree_27 : decode cX4_isFree 27 = .ok (.getfield 79, 3) := dk_180 0 79 (dk_at dksX4_isFree_1 3 rfl rfl)
theorem dX4_isFree_30 : decode cX4_isFree 30 = .ok (.if_icmp .lt 5, 3) := dk_161 0 5 (dk_at dksX4_isFree_1 6 rfl rfl)
theorem dX4_isFree_33 : decode cX4_isFree 33 = .ok (.iconst 0, 1) := dk_3 (dk_at dksX4_isFree_1 9 rfl rfl)
theorem dX4_isFree_34 : decode cX4_isFree 34 = .ok (.ireturn, 1) := dk_172 (dk_at dksX4_isFree_1 10 rfl rfl)
theorem dX4_isFree_35 : decode cX4_isFree 35 = .ok (.iinc 3 1, 3) := dk_132 3 1 (dk_at dksX4_isFree_1 11 rfl rfl)
theorem dX4_isFree_38 : decode cX4_isFree 38 = .ok (.goto (-30), 3) := dk_167 255 226 (dk_at dksX4_isFree_1 14 rfl rfl)
theorem dX4_isFree_41 : decode cX4_isFree 41 = .ok (.iconst 1, 1) := dk_4 (dk_at dksX4_isFree_1 17 rfl rfl)
theorem dX4_isFree_42 : decode cX4_isFree 42 = .ok (.ireturn, 1) := dk_172 (dk_at dksX4_isFree_1 18 rfl rfl)
abbrev cX4_size : ByteArray := prog_14_method_6_code
def yX4_size : MethodName := ⟨RX4, "size", "(I)I"⟩
def dkwX4_size_0 : List UInt8 := [42, 180, 0, 26, 180, 0, 33, 27, 182, 0, 56, 192, 0, 60, 180, 0, 62, 172]
abbrev dktX4_size_0 : List UInt8 := dkwX4_size_0 ++ []
theorem dksX4_size_0 : cX4_size.data.toList.drop 0 = dktX4_size_0 := by decide +kernel
theorem dX4_size_0 : decode cX4_size 0 = .ok (.aload_n 0, 1) := dk_42 (dk_at dksX4_size_0 0 rfl rfl)
theorem dX4_size_1 : decode cX4_size 1 = .ok (.getfield 26, 3) := dk_180 0 26 (dk_at dksX4_size_0 1 rfl rfl)
theorem dX4_size_4 : decode cX4_size 4 = .ok (.getfield 33, 3) := dk_180 0 33 (dk_at dksX4_size_0 4 rfl rfl)
theorem dX4_size_7 : decode cX4_size 7 = .ok (.iload_n 1, 1) := dk_27 (dk_at dksX4_size_0 7 rfl rfl)
theorem dX4_size_8 : decode cX4_size 8 = .ok (.invokevirtual 56, 3) := dk_182 0 56 (dk_at dksX4_size_0 8 rfl rfl)
theorem dX4_size_11 : decode cX4_size 11 = .ok (.checkcast 60, 3) := dk_192 0 60 (dk_at dksX4_size_0 11 rfl rfl)
theorem dX4_size_14 : decode cX4_size 14 = .ok (.getfield 62, 3) := dk_180 0 62 (dk_at dksX4_size_0 14 rfl rfl)
theorem dX4_size_17 : decode cX4_size 17 = .ok (.ireturn, 1) := dk_172 (dk_at dksX4_size_0 17 rfl rfl)
abbrev cX4_bears : ByteArray := prog_14_method_7_code
def yX4_bears : MethodName := ⟨RX4, "bears", "(III)Z"⟩
def dkwX4_bears_2 : List UInt8 := [164, 0, 5, 3, 172, 21, 4, 42, 21, 6, 182, 0, 67, 96, 54, 4, 132, 5, 255, 167, 255, 199, 4, 172]
abbrev dktX4_bears_2 : List UInt8 := dkwX4_bears_2 ++ []
def dkwX4_bears_1 : List UInt8 := [54, 6, 21, 4, 42, 180, 0, 26, 180, 0, 33, 21, 6, 182, 0, 56, 192, 0, 60, 180, 0, 64]
abbrev dktX4_bears_1 : List UInt8 := dkwX4_bears_1 ++ dktX4_bears_2
def dkwX4_bears_0 : List UInt8 := [29, 54, 4, 28, 4, 100, 54, 5, 21, 5, 155, 0, 58, 42, 180, 0, 15, 6, 27, 104, 21, 5, 96, 46]
abbrev dktX4_bears_0 : List UInt8 := dkwX4_bears_0 ++ dktX4_bears_1
theorem dksX4_bears_0 : cX4_bears.data.toList.drop 0 = dktX4_bears_0 := by decide +kernel
theorem dksX4_bears_1 : cX4_bears.data.toList.drop 24 = dktX4_bears_1 := dk_seg dksX4_bears_0 24 rfl rfl
theorem dksX4_bears_2 : cX4_bears.data.toList.drop 46 = dktX4_bears_2 := dk_seg dksX4_bears_1 22 rfl rfl
theorem dX4_bears_0 : decode cX4_bears 0 = .ok (.iload_n 3, 1) := dk_29 (dk_at dksX4_bears_0 0 rfl rfl)
theorem dX4_bears_1 : decode cX4_bears 1 = .ok (.istore 4, 2) := dk_54 4 (dk_at dksX4_bears_0 1 rfl rfl)
theorem dX4_bears_3 : decode cX4_bears 3 = .ok (.iload_n 2, 1) := dk_28 (dk_at dksX4_bears_0 3 rfl rfl)
theorem dX4_bears_4 : decode cX4_bears 4 = .ok (.iconst 1, 1) := dk_4 (dk_at dksX4_bears_0 4 rfl rfl)
theorem dX4_bears_5 : decode cX4_bears 5 = .ok (.isub, 1) := dk_100 (dk_at dksX4_bears_0 5 rfl rfl)
theorem dX4_bears_6 : decode cX4_bears 6 = .ok (.istore 5, 2) := dk_54 5 (dk_at dksX4_bears_0 6 rfl rfl)
theorem dX4_bears_8 : decode cX4_bears 8 = .ok (.iload 5, 2) := dk_21 5 (dk_at dksX4_bears_0 8 rfl rfl)
theorem dX4_bears_10 : decode cX4_bears 10 = .ok (.ifCond .lt 58, 3) := dk_155 0 58 (dk_at dksX4_bears_0 10 rfl rfl)
theorem dX4_bears_13 : decode cX4_bears 13 = .ok (.aload_n 0, 1) := dk_42 (dk_at dksX4_bears_0 13 rfl rfl)
theorem dX4_bears_14 : decode cX4_bears 14 = .ok (.getfield 15, 3) := dk_180 0 15 (dk_at dksX4_bears_0 14 rfl rfl)
theorem dX4_bears_17 : decode cX4_bears 17 = .ok (.iconst 3, 1) := dk_6 (dk_at dksX4_bears_0 17 rfl rfl)
theorem dX4_bears_18 : decode cX4_bears 18 = .ok (.iload_n 1, 1) := dk_27 (dk_at dksX4_bears_0 18 rfl rfl)
theorem dX4_bears_19 : decode cX4_bears 19 = .ok (.imul, 1) := dk_104 (dk_at dksX4_bears_0 19 rfl rfl)
theorem dX4_bears_20 : decode cX4_bears 20 = .ok (.iload 5, 2) := dk_21 5 (dk_at dksX4_bears_0 20 rfl rfl)
theorem dX4_bears_22 : decode cX4_bears 22 = .ok (.iadd, 1) := dk_96 (dk_at dksX4_bears_0 22 rfl rfl)
theorem dX4_bears_23 : decode cX4_bears 23 = .ok (.iaload, 1) := dk_46 (dk_at dksX4_bears_0 23 rfl rfl)
theorem dX4_bears_24 : decode cX4_bears 24 = .ok (.istore 6, 2) := dk_54 6 (dk_at dksX4_bears_1 0 rfl rfl)
theorem dX4_bears_26 : decode cX4_bears 26 = .ok (.iload 4, 2) := dk_21 4 (dk_at dksX4_bears_1 2 rfl rfl)
theorem dX4_bears_28 : decode cX4_bears 28 = .ok (.aload_n 0, 1) := dk_42 (dk_at dksX4_bears_1 4 rfl rfl)
theorem dX4_bears_29 : decode cX4_bears 29 = .ok (.getfield 26, 3) := dk_180 0 26 (dk_at dksX4_bears_1 5 rfl rfl)
theorem dX4_bears_32 : decode cX4_bears 32 = .ok (.getfield 33, 3) := dk_180 0 33 (dk_at dksX4_bears_1 8 rfl rfl)
theorem dX4_bears_35 : decode cX4_bears 35 = .ok (.iload 6, 2) := dk_21 6 (dk_at dksX4_bears_1 11 rfl rfl)
theorem dX4_bears_37 : decode cX4_bears 37 = .ok (.invokevirtual 56, 3) := dk_182 0 56 (dk_at dksX4_bears_1 13 rfl rfl)
theorem dX4_bears_40 : decode cX4_bears 40 = .ok (.checkcast 60, 3) := dk_192 0 60 (dk_at dksX4_bears_1 16 rfl rfl)
theorem dX4_bears_43 : decode cX4_bears 43 = .ok (.getfield 64, 3) := dk_180 0 64 (dk_at dksX4_bears_1 19 rfl rfl)
theorem dX4_bears_46 : decode cX4_bears 46 = .ok (.if_icmp .le 5, 3) := dk_164 0 5 (dk_at dksX4_bears_2 0 rfl rfl)
theorem dX4_bears_49 : decode cX4_bears 49 = .ok (.iconst 0, 1) := dk_3 (dk_at dksX4_bears_2 3 rfl rfl)
theorem dX4_bears_50 : decode cX4_bears 50 = .ok (.ireturn, 1) := dk_172 (dk_at dksX4_bears_2 4 rfl rfl)
theorem dX4_bears_51 : decode cX4_bears 51 = .ok (.iload 4, 2) := dk_21 4 (dk_at dksX4_bears_2 5 rfl rfl)
theorem dX4_bears_53 : decode cX4_bears 53 = .ok (.aload_n 0, 1) := dk_42 (dk_at dksX4_bears_2 7 rfl rfl)
theorem dX4_bears_54 : decode cX4_bears 54 = .ok (.iload 6, 2) := dk_21 6 (dk_at dksX4_bears_2 8 rfl rfl)
theorem dX4_bears_56 : decode cX4_bears 56 = .ok (.invokevirtual 67, 3) := dk_182 0 67 (dk_at dksX4_bears_2 10 rfl rfl)
theorem dX4_bears_59 : decode cX4_bears 59 = .ok (.iadd, 1) := dk_96 (dk_at dksX4_bears_2 13 rfl rfl)
theorem dX4_bears_60 : decode cX4_bears 60 = .ok (.istore 4, 2) := dk_54 4 (dk_at dksX4_bears_2 14 rfl rfl)
theorem dX4_bears_62 : decode cX4_bears 62 = .ok (.iinc 5 (-1), 3) := dk_132 5 255 (dk_at dksX4_bears_2 16 rfl rfl)
theorem dX4_bears_65 : decode cX4_bears 65 = .ok (.goto (-57), 3) := dk_167 255 199 (dk_at dksX4_bears_2 19 rfl rfl)
theorem dX4_bears_68 : decode cX4_bears 68 = .ok (.iconst 1, 1) := dk_4 (dk_at dksX4_bears_2 22 rfl rfl)
theorem dX4_bears_69 : decode cX4_bears 69 = .ok (.ireturn, 1) := dk_172 (dk_at dksX4_bears_2 23 rfl rfl)
abbrev cX4_isBarred : ByteArray := prog_14_method_9_code
def yX4_isBarred : MethodName := ⟨RX4, "isBarred", "(III)Z"⟩
def dkwX4_isBarred_7 : List UInt8 := [3, 172]
abbrev dktX4_isBarred_7 : List UInt8 := dkwX4_isBarred_7 ++ []
def dkwX4_isBarred_6 : List UInt8 := [192, 0, 117, 42, 180, 0, 3, 180, 0, 85, 182, 0, 119, 153, 0, 5, 4, 172, 132, 5, 1, 167, 255, 202]
abbrev dktX4_isBarred_6 : List UInt8 := dkwX4_isBarred_6 ++ dktX4_isBarred_7
def dkwX4_isBarred_5 : List UInt8 := [180, 0, 112, 182, 0, 39, 162, 0, 42, 42, 180, 0, 3, 180, 0, 108, 180, 0, 112, 21, 5, 182, 0, 56]
abbrev dktX4_isBarred_5 : List UInt8 := dkwX4_isBarred_5 ++ dktX4_isBarred_6
def dkwX4_isBarred_4 : List UInt8 := [180, 0, 3, 180, 0, 85, 29, 181, 0, 105, 3, 54, 5, 21, 5, 42, 180, 0, 3, 180, 0, 108]
abbrev dktX4_isBarred_4 : List UInt8 := dkwX4_isBarred_4 ++ dktX4_isBarred_5
def dkwX4_isBarred_3 : List UInt8 := [181, 0, 99, 42, 180, 0, 3, 180, 0, 85, 42, 180, 0, 19, 27, 46, 4, 100, 181, 0, 102, 42]
abbrev dktX4_isBarred_3 : List UInt8 := dkwX4_isBarred_3 ++ dktX4_isBarred_4
def dkwX4_isBarred_2 : List UInt8 := [181, 0, 95, 42, 180, 0, 3, 180, 0, 85, 27, 181, 0, 96, 42, 180, 0, 3, 180, 0, 85, 28]
abbrev dktX4_isBarred_2 : List UInt8 := dkwX4_isBarred_2 ++ dktX4_isBarred_3
def dkwX4_isBarred_1 : List UInt8 := [180, 0, 85, 25, 4, 180, 0, 89, 181, 0, 92, 42, 180, 0, 3, 180, 0, 85, 25, 4, 180, 0, 62]
abbrev dktX4_isBarred_1 : List UInt8 := dkwX4_isBarred_1 ++ dktX4_isBarred_2
def dkwX4_isBarred_0 : List UInt8 := [42, 180, 0, 26, 180, 0, 33, 42, 27, 182, 0, 82, 182, 0, 56, 192, 0, 60, 58, 4, 42, 180, 0, 3]
abbrev dktX4_isBarred_0 : List UInt8 := dkwX4_isBarred_0 ++ dktX4_isBarred_1
theorem dksX4_isBarred_0 : cX4_isBarred.data.toList.drop 0 = dktX4_isBarred_0 := by decide +kernel
theorem dksX4_isBarred_1 : cX4_isBarred.data.toList.drop 24 = dktX4_isBarred_1 := dk_seg dksX4_isBarred_0 24 rfl rfl
theorem dksX4_isBarred_2 : cX4_isBarred.data.toList.drop 47 = dktX4_isBarred_2 := dk_seg dksX4_isBarred_1 23 rfl rfl
theorem dksX4_isBarred_3 : cX4_isBarred.data.toList.drop 69 = dktX4_isBarred_3 := dk_seg dksX4_isBarred_2 22 rfl rfl
theorem dksX4_isBarred_4 : cX4_isBarred.data.toList.drop 91 = dktX4_isBarred_4 := dk_seg dksX4_isBarred_3 22 rfl rfl
theorem dksX4_isBarred_5 : cX4_isBarred.data.toList.drop 113 = dktX4_isBarred_5 := dk_seg dksX4_isBarred_4 22 rfl rfl
theorem dksX4_isBarred_6 : cX4_isBarred.data.toList.drop 137 = dktX4_isBarred_6 := dk_seg dksX4_isBarred_5 24 rfl rfl
theorem dksX4_isBarred_7 : cX4_isBarred.data.toList.drop 161 = dktX4_isBarred_7 := dk_seg dksX4_isBarred_6 24 rfl rfl
theorem dX4_isBarred_0 : decode cX4_isBarred 0 = .ok (.aload_n 0, 1) := dk_42 (dk_at dksX4_isBarred_0 0 rfl rfl)
theorem dX4_isBarred_1 : decode cX4_isBarred 1 = .ok (.getfield 26, 3) := dk_180 0 26 (dk_at dksX4_isBarred_0 1 rfl rfl)
theorem dX4_isBarred_4 : decode cX4_isBarred 4 = .ok (.getfield 33, 3) := dk_180 0 33 (dk_at dksX4_isBarred_0 4 rfl rfl)
theorem dX4_isBarred_7 : decode cX4_isBarred 7 = .ok (.aload_n 0, 1) := dk_42 (dk_at dksX4_isBarred_0 7 rfl rfl)
theorem dX4_isBarred_8 : decode cX4_isBarred 8 = .ok (.iload_n 1, 1) := dk_27 (dk_at dksX4_isBarred_0 8 rfl rfl)
theorem dX4_isBarred_9 : decode cX4_isBarred 9 = .ok (.invokevirtual 82, 3) := dk_182 0 82 (dk_at dksX4_isBarred_0 9 rfl rfl)
theorem dX4_isBarred_12 : decode cX4_isBarred 12 = .ok (.invokevirtual 56, 3) := dk_182 0 56 (dk_at dksX4_isBarred_0 12 rfl rfl)
theorem dX4_isBarred_15 : decode cX4_isBarred 15 = .ok (.checkcast 60, 3) := dk_192 0 60 (dk_at dksX4_isBarred_0 15 rfl rfl)
theorem dX4_isBarred_18 : decode cX4_isBarred 18 = .ok (.astore 4, 2) := dk_58 4 (dk_at dksX4_isBarred_0 18 rfl rfl)
theorem dX4_isBarred_20 : decode cX4_isBarred 20 = .ok (.aload_n 0, 1) := dk_42 (dk_at dksX4_isBarred_0 20 rfl rfl)
theorem dX4_isBarred_21 : decode cX4_isBarred 21 = .ok (.getfield 3, 3) := dk_180 0 3 (dk_at dksX4_isBarred_0 21 rfl rfl)
theorem dX4_isBarred_24 : decode cX4_isBarred 24 = .ok (.getfield 85, 3) := dk_180 0 85 (dk_at dksX4_isBarred_1 0 rfl rfl)
theorem dX4_isBarred_27 : decode cX4_isBarred 27 = .ok (.aload 4, 2) := dk_25 4 (dk_at dksX4_isBarred_1 3 rfl rfl)
theorem dX4_isBarred_29 : decode cX4_isBarred 29 = .ok (.getfield 89, 3) := dk_180 0 89 (dk_at dksX4_isBarred_1 5 rfl rfl)
theorem dX4_isBarred_32 : decode cX4_isBarred 32 = .ok (.putfield 92, 3) := dk_181 0 92 (dk_at dksX4_isBarred_1 8 rfl rfl)
theorem dX4_isBarred_35 : decode cX4_isBarred 35 = .ok (.aload_n 0, 1) := dk_42 (dk_at dksX4_isBarred_1 11 rfl rfl)
theorem dX4_isBarred_36 : decode cX4_isBarred 36 = .ok (.getfield 3, 3) := dk_180 0 3 (dk_at dksX4_isBarred_1 12 rfl rfl)
theorem dX4_isBarred_39 : decode cX4_isBarred 39 = .ok (.getfield 85, 3) := dk_180 0 85 (dk_at dksX4_isBarred_1 15 rfl rfl)
theorem dX4_isBarred_42 : decode cX4_isBarred 42 = .ok (.aload 4, 2) := dk_25 4 (dk_at dksX4_isBarred_1 18 rfl rfl)
theorem dX4_isBarred_44 : decode cX4_isBarred 44 = .ok (.getfield 62, 3) := dk_180 0 62 (dk_at dksX4_isBarred_1 20 rfl rfl)
theorem dX4_isBarred_47 : decode cX4_isBarred 47 = .ok (.putfield 95, 3) := dk_181 0 95 (dk_at dksX4_isBarred_2 0 rfl rfl)
theorem dX4_isBarred_50 : decode cX4_isBarred 50 = .ok (.aload_n 0, 1) := dk_42 (dk_at dksX4_isBarred_2 3 rfl rfl)
theorem dX4_isBarred_51 : decode cX4_isBarred 51 = .ok (.getfield 3, 3) := dk_180 0 3 (dk_at dksX4_isBarred_2 4 rfl rfl)
theorem dX4_isBarred_54 : decode cX4_isBarred 54 = .ok (.getfield 85, 3) := dk_180 0 85 (dk_at dksX4_isBarred_2 7 rfl rfl)
theorem dX4_isBarred_57 : decode cX4_isBarred 57 = .ok (.iload_n 1, 1) := dk_27 (dk_at dksX4_isBarred_2 10 rfl rfl)
theorem dX4_isBarred_58 : decode cX4_isBarred 58 = .ok (.putfield 96, 3) := dk_181 0 96 (dk_at dksX4_isBarred_2 11 rfl rfl)
theorem dX4_isBarred_61 : decode cX4_isBarred 61 = .ok (.aload_n 0, 1) := dk_42 (dk_at dksX4_isBarred_2 14 rfl rfl)
theorem dX4_isBarred_62 : decode cX4_isBarred 62 = .ok (.getfield 3, 3) := dk_180 0 3 (dk_at dksX4_isBarred_2 15 rfl rfl)
theorem dX4_isBarred_65 : decode cX4_isBarred 65 = .ok (.getfield 85, 3) := dk_180 0 85 (dk_at dksX4_isBarred_2 18 rfl rfl)
theorem dX4_isBarred_68 : decode cX4_isBarred 68 = .ok (.iload_n 2, 1) := dk_28 (dk_at dksX4_isBarred_2 21 rfl rfl)
theorem dX4_isBarred_69 : decode cX4_isBarred 69 = .ok (.putfield 99, 3) := dk_181 0 99 (dk_at dksX4_isBarred_3 0 rfl rfl)
theorem dX4_isBarred_72 : decode cX4_isBarred 72 = .ok (.aload_n 0, 1) := dk_42 (dk_at dksX4_isBarred_3 3 rfl rfl)
theorem dX4_isBarred_73 : decode cX4_isBarred 73 = .ok (.getfield 3, 3) := dk_180 0 3 (dk_at dksX4_isBarred_3 4 rfl rfl)
theorem dX4_isBarred_76 : decode cX4_isBarred 76 = .ok (.getfield 85, 3) := dk_180 0 85 (dk_at dksX4_isBarred_3 7 rfl rfl)
theorem dX4_isBarred_79 : decode cX4_isBarred 79 = .ok (.aload_n 0, 1) := dk_42 (dk_at dksX4_isBarred_3 10 rfl rfl)
theorem dX4_isBarred_80 : decode cX4_isBarred 80 = .ok (.getfield 19, 3) := dk_180 0 19 (dk_at dksX4_isBarred_3 11 rfl rfl)
theorem dX4_isBarred_83 : decode cX4_isBarred 83 = .ok (.iload_n 1, 1) := dk_27 (dk_at dksX4_isBarred_3 14 rfl rfl)
theorem dX4_isBarred_84 : decode cX4_isBarred 84 = .ok (.iaload, 1) := dk_46 (dk_at dksX4_isBarred_3 15 rfl rfl)
theorem dX4_isBarred_85 : decode cX4_isBarred 85 = .ok (.iconst 1, 1) := dk_4 (dk_at dksX4_isBarred_3 16 rfl rfl)
theorem dX4_isBarred_86 : decode cX4_isBarred 86 = .ok (.isub, 1) := dk_100 (dk_at dksX4_isBarred_3 17 rfl rfl)
theorem dX4_isBarred_87 : decode cX4_isBarred 87 = .ok (.putfield 102, 3) := dk_181 0 102 (dk_at dksX4_isBarred_3 18 rfl rfl)
theorem dX4_isBarred_90 : decode cX4_isBarred 90 = .ok (.aload_n 0, 1) := dk_42 (dk_at dksX4_isBarred_3 21 rfl rfl)
theorem dX4_isBarred_91 : decode cX4_isBarred 91 = .ok (.getfield 3, 3) := dk_180 0 3 (dk_at dksX4_isBarred_4 0 rfl rfl)
theorem dX4_isBarred_94 : decode cX4_isBarred 94 = .ok (.getfield 85, 3) := dk_180 0 85 (dk_at dksX4_isBarred_4 3 rfl rfl)
theorem dX4_isBarred_97 : decode cX4_isBarred 97 = .ok (.iload_n 3, 1) := dk_29 (dk_at dksX4_isBarred_4 6 rfl rfl)
theorem dX4_isBarred_98 : decode cX4_isBarred 98 = .ok (.putfield 105, 3) := dk_181 0 105 (dk_at dksX4_isBarred_4 7 rfl rfl)
theorem dX4_isBarred_101 : decode cX4_isBarred 101 = .ok (.iconst 0, 1) := dk_3 (dk_at dksX4_isBarred_4 10 rfl rfl)
theorem dX4_isBarred_102 : decode cX4_isBarred 102 = .ok (.istore 5, 2) := dk_54 5 (dk_at dksX4_isBarred_4 11 rfl rfl)
theorem dX4_isBarred_104 : decode cX4_isBarred 104 = .ok (.iload 5, 2) := dk_21 5 (dk_at dksX4_isBarred_4 13 rfl rfl)
theorem dX4_isBarred_106 : decode cX4_isBarred 106 = .ok (.aload_n 0, 1) := dk_42 (dk_at dksX4_isBarred_4 15 rfl rfl)
theorem dX4_isBarred_107 : decode cX4_isBarred 107 = .ok (.getfield 3, 3) := dk_180 0 3 (dk_at dksX4_isBarred_4 16 rfl rfl)
theorem dX4_isBarred_110 : decode cX4_isBarred 110 = .ok (.getfield 108, 3) := dk_180 0 108 (dk_at dksX4_isBarred_4 19 rfl rfl)
theorem dX4_isBarred_113 : decode cX4_isBarred 113 = .ok (.getfield 112, 3) := dk_180 0 112 (dk_at dksX4_isBarred_5 0 rfl rfl)
theorem dX4_isBarred_116 : decode cX4_isBarred 116 = .ok (.invokevirtual 39, 3) := dk_182 0 39 (dk_at dksX4_isBarred_5 3 rfl rfl)
theorem dX4_isBarred_119 : decode cX4_isBarred 119 = .ok (.if_icmp .ge 42, 3) := dk_162 0 42 (dk_at dksX4_isBarred_5 6 rfl rfl)
theorem dX4_isBarred_122 : decode cX4_isBarred 122 = .ok (.aload_n 0, 1) := dk_42 (dk_at dksX4_isBarred_5 9 rfl rfl)
theorem dX4_isBarred_123 : decode cX4_isBarred 123 = .ok (.getfield 3, 3) := dk_180 0 3 (dk_at dksX4_isBarred_5 10 rfl rfl)
theorem dX4_isBarred_126 : decode cX4_isBarred 126 = .ok (.getfield 108, 3) := dk_180 0 108 (dk_at dksX4_isBarred_5 13 rfl rfl)
theorem dX4_isBarred_129 : decode cX4_isBarred 129 = .ok (.getfield 112, 3) := dk_180 0 112 (dk_at dksX4_isBarred_5 16 rfl rfl)
theorem dX4_isBarred_132 : decode cX4_isBarred 132 = .ok (.iload 5, 2) := dk_21 5 (dk_at dksX4_isBarred_5 19 rfl rfl)
theorem dX4_isBarred_134 : decode cX4_isBarred 134 = .ok (.invokevirtual 56, 3) := dk_182 0 56 (dk_at dksX4_isBarred_5 21 rfl rfl)
theorem dX4_isBarred_137 : decode cX4_isBarred 137 = .ok (.checkcast 117, 3) := dk_192 0 117 (dk_at dksX4_isBarred_6 0 rfl rfl)
theorem dX4_isBarred_140 : decode cX4_isBarred 140 = .ok (.aload_n 0, 1) := dk_42 (dk_at dksX4_isBarred_6 3 rfl rfl)
theorem dX4_isBarred_141 : decode cX4_isBarred 141 = .ok (.getfield 3, 3) := dk_180 0 3 (dk_at dksX4_isBarred_6 4 rfl rfl)
theorem dX4_isBarred_144 : decode cX4_isBarred 144 = .ok (.getfield 85, 3) := dk_180 0 85 (dk_at dksX4_isBarred_6 7 rfl rfl)
theorem dX4_isBarred_147 : decode cX4_isBarred 147 = .ok (.invokevirtual 119, 3) := dk_182 0 119 (dk_at dksX4_isBarred_6 10 rfl rfl)
theorem dX4_isBarred_150 : decode cX4_isBarred 150 = .ok (.ifCond .eq 5, 3) := dk_153 0 5 (dk_at dksX4_isBarred_6 13 rfl rfl)
theorem dX4_isBarred_153 : decode cX4_isBarred 153 = .ok (.iconst 1, 1) := dk_4 (dk_at dksX4_isBarred_6 16 rfl rfl)
theorem dX4_isBarred_154 : decode cX4_isBarred 154 = .ok (.ireturn, 1) := dk_172 (dk_at dksX4_isBarred_6 17 rfl rfl)
theorem dX4_isBarred_155 : decode cX4_isBarred 155 = .ok (.iinc 5 1, 3) := dk_132 5 1 (dk_at dksX4_isBarred_6 18 rfl rfl)
theorem dX4_isBarred_158 : decode cX4_isBarred 158 = .ok (.goto (-54), 3) := dk_167 255 202 (dk_at dksX4_isBarred_6 21 rfl rfl)
theorem dX4_isBarred_161 : decode cX4_isBarred 161 = .ok (.iconst 0, 1) := dk_3 (dk_at dksX4_isBarred_7 0 rfl rfl)
theorem dX4_isBarred_162 : decode cX4_isBarred 162 = .ok (.ireturn, 1) := dk_172 (dk_at dksX4_isBarred_7 1 rfl rfl)
abbrev cX4_mayExchange : ByteArray := prog_14_method_12_code
def yX4_mayExchange : MethodName := ⟨RX4, "mayExchange", "(II)I"⟩
def dkwX4_mayExchange_9 : List UInt8 := [167, 0, 4, 3, 172]
abbrev dktX4_mayExchange_9 : List UInt8 := dkwX4_mayExchange_9 ++ []
def dkwX4_mayExchange_8 : List UInt8 := [16, 7, 172, 42, 180, 0, 30, 184, 0, 157, 5, 96, 42, 180, 0, 26, 180, 0, 162, 164, 0, 8, 16, 9]
abbrev dktX4_mayExchange_8 : List UInt8 := dkwX4_mayExchange_8 ++ dktX4_mayExchange_9
def dkwX4_mayExchange_7 : List UInt8 := [182, 0, 151, 154, 0, 20, 42, 28, 27, 42, 180, 0, 19, 27, 46, 4, 100, 182, 0, 151, 153, 0, 6]
abbrev dktX4_mayExchange_7 : List UInt8 := dkwX4_mayExchange_7 ++ dktX4_mayExchange_8
def dkwX4_mayExchange_6 : List UInt8 := [182, 0, 67, 182, 0, 148, 154, 0, 6, 16, 6, 172, 42, 27, 28, 42, 180, 0, 19, 28, 46, 4, 100]
abbrev dktX4_mayExchange_6 : List UInt8 := dkwX4_mayExchange_6 ++ dktX4_mayExchange_7
def dkwX4_mayExchange_5 : List UInt8 := [182, 0, 148, 153, 0, 28, 42, 28, 42, 180, 0, 19, 28, 46, 4, 100, 42, 42, 27, 182, 0, 82]
abbrev dktX4_mayExchange_5 : List UInt8 := dkwX4_mayExchange_5 ++ dktX4_mayExchange_6
def dkwX4_mayExchange_4 : List UInt8 := [154, 0, 5, 8, 172, 42, 27, 42, 180, 0, 19, 27, 46, 4, 100, 42, 42, 28, 182, 0, 82, 182, 0, 67]
abbrev dktX4_mayExchange_4 : List UInt8 := dkwX4_mayExchange_4 ++ dktX4_mayExchange_5
def dkwX4_mayExchange_3 : List UInt8 := [180, 0, 30, 42, 28, 182, 0, 82, 184, 0, 138, 153, 0, 5, 6, 172, 42, 27, 28, 182, 0, 145]
abbrev dktX4_mayExchange_3 : List UInt8 := dkwX4_mayExchange_3 ++ dktX4_mayExchange_4
def dkwX4_mayExchange_2 : List UInt8 := [28, 46, 154, 0, 5, 5, 172, 42, 180, 0, 30, 42, 27, 182, 0, 82, 184, 0, 138, 154, 0, 18, 42]
abbrev dktX4_mayExchange_2 : List UInt8 := dkwX4_mayExchange_2 ++ dktX4_mayExchange_3
def dkwX4_mayExchange_1 : List UInt8 := [180, 0, 26, 180, 0, 165, 154, 0, 5, 4, 172, 42, 180, 0, 19, 27, 46, 153, 0, 12, 42, 180, 0, 19]
abbrev dktX4_mayExchange_1 : List UInt8 := dkwX4_mayExchange_1 ++ dktX4_mayExchange_2
def dkwX4_mayExchange_0 : List UInt8 := [42, 27, 182, 0, 135, 153, 0, 26, 42, 28, 182, 0, 135, 153, 0, 18, 27, 28, 159, 0, 13, 42]
abbrev dktX4_mayExchange_0 : List UInt8 := dkwX4_mayExchange_0 ++ dktX4_mayExchange_1
theorem dksX4_mayExchange_0 : cX4_mayExchange.data.toList.drop 0 = dktX4_mayExchange_0 := by decide +kernel
theorem dksX4_mayExchange_1 : cX4_mayExchange.data.toList.drop 22 = dktX4_mayExchange_1 := dk_seg dksX4_mayExchange_0 22 rfl rfl
theorem dksX4_mayExchange_2 : cX4_mayExchange.data.toList.drop 46 = dktX4_mayExchange_2 := dk_seg dksX4_mayExchange_1 24 rfl rfl
theorem dksX4_mayExchange_3 : cX4_mayExchange.data.toList.drop 69 = dktX4_mayExchange_3 := dk_seg dksX4_mayExchange_2 23 rfl rfl
theorem dksX4_mayExchange_4 : cX4_mayExchange.data.toList.drop 91 = dktX4_mayExchange_4 := dk_seg dksX4_mayExchange_3 22 rfl rfl
theorem dksX4_mayExchange_5 : cX4_mayExchange.data.toList.drop 115 = dktX4_mayExchange_5 := dk_seg dksX4_mayExchange_4 24 rfl rfl
theorem dksX4_mayExchange_6 : cX4_mayExchange.data.toList.drop 137 = dktX4_mayExchange_6 := dk_seg dksX4_mayExchange_5 22 rfl rfl
theorem dksX4_mayExchange_7 : cX4_mayExchange.data.toList.drop 160 = dktX4_mayExchange_7 := dk_seg dksX4_mayExchange_6 23 rfl rfl
theorem dksX4_mayExchange_8 : cX4_mayExchange.data.toList.drop 183 = dktX4_mayExchange_8 := dk_seg dksX4_mayExchange_7 23 rfl rfl
theorem dksX4_mayExchange_9 : cX4_mayExchange.data.toList.drop 207 = dktX4_mayExchange_9 := dk_seg dksX4_mayExchange_8 24 rfl rfl
theorem dX4_mayExchange_0 : decode cX4_mayExchange 0 = .ok (.aload_n 0, 1) := dk_42 (dk_at dksX4_mayExchange_0 0 rfl rfl)
theorem dX4_mayExchange_1 : decode cX4_mayExchange 1 = .ok (.iload_n 1, 1) := dk_27 (dk_at dksX4_mayExchange_0 1 rfl rfl)
theorem dX4_mayExchange_2 : decode cX4_mayExchange 2 = .ok (.invokevirtual 135, 3) := dk_182 0 135 (dk_at dksX4_mayExchange_0 2 rfl rfl)
theorem dX4_mayExchange_5 : decode cX4_mayExchange 5 = .ok (.ifCond .eq 26, 3) := dk_153 0 26 (dk_at dksX4_mayExchange_0 5 rfl rfl)
theorem dX4_mayExchange_8 : decode cX4_mayExchange 8 = .ok (.aload_n 0, 1) := dk_42 (dk_at dksX4_mayExchange_0 8 rfl rfl)
theorem dX4_mayExchange_9 : decode cX4_mayExchange 9 = .ok (.iload_n 2, 1) := dk_28 (dk_at dksX4_mayExchange_0 9 rfl rfl)
theorem dX4_mayExchange_10 : decode cX4_mayExchange 10 = .ok (.invokevirtual 135, 3) := dk_182 0 135 (dk_at dksX4_mayExchange_0 10 rfl rfl)
theorem dX4_mayExchange_13 : decode cX4_mayExchange 13 = .ok (.ifCond .eq 18, 3) := dk_153 0 18 (dk_at dksX4_mayExchange_0 13 rfl rfl)
theorem dX4_mayExchange_16 : decode cX4_mayExchange 16 = .ok (.iload_n 1, 1) := dk_27 (dk_at dksX4_mayExchange_0 16 rfl rfl)
theorem dX4_mayExchange_17 : decode cX4_mayExchange 17 = .ok (.iload_n 2, 1) := dk_28 (dk_at dksX4_mayExchange_0 17 rfl rfl)
theorem dX4_mayExchange_18 : decode cX4_mayExchange 18 = .ok (.if_icmp .eq 13, 3) := dk_159 0 13 (dk_at dksX4_mayExchange_0 18 rfl rfl)
theorem dX4_mayExchange_21 : decode cX4_mayExchange 21 = .ok (.aload_n 0, 1) := dk_42 (dk_at dksX4_mayExchange_0 21 rfl rfl)
theorem dX4_mayExchange_22 : decode cX4_mayExchange 22 = .ok (.getfield 26, 3) := dk_180 0 26 (dk_at dksX4_mayExchange_1 0 rfl rfl)
theorem dX4_mayExchange_25 : decode cX4_mayExchange 25 = .ok (.getfield 165, 3) := dk_180 0 165 (dk_at dksX4_mayExchange_1 3 rfl rfl)
theorem dX4_mayExchange_28 : decode cX4_mayExchange 28 = .ok (.ifCond .ne 5, 3) := dk_154 0 5 (dk_at dksX4_mayExchange_1 6 rfl rfl)
theorem dX4_mayExchange_31 : decode cX4_mayExchange 31 = .ok (.iconst 1, 1) := dk_4 (dk_at dksX4_mayExchange_1 9 rfl rfl)
theorem dX4_mayExchange_32 : decode cX4_mayExchange 32 = .ok (.ireturn, 1) := dk_172 (dk_at dksX4_mayExchange_1 10 rfl rfl)
theorem dX4_mayExchange_33 : decode cX4_mayExchange 33 = .ok (.aload_n 0, 1) := dk_42 (dk_at dksX4_mayExchange_1 11 rfl rfl)
theorem dX4_mayExchange_34 : decode cX4_mayExchange 34 = .ok (.getfield 19, 3) := dk_180 0 19 (dk_at dksX4_mayExchange_1 12 rfl rfl)
theorem dX4_mayExchange_37 : decode cX4_mayExchange 37 = .ok (.iload_n 1, 1) := dk_27 (dk_at dksX4_mayExchange_1 15 rfl rfl)
theorem dX4_mayExchange_38 : decode cX4_mayExchange 38 = .ok (.iaload, 1) := dk_46 (dk_at dksX4_mayExchange_1 16 rfl rfl)
theorem dX4_mayExchange_39 : decode cX4_mayExchange 39 = .ok (.ifCond .eq 12, 3) := dk_153 0 12 (dk_at dksX4_mayExchange_1 17 rfl rfl)
theorem dX4_mayExchange_42 : decode cX4_mayExchange 42 = .ok (.aload_n 0, 1) := dk_42 (dk_at dksX4_mayExchange_1 20 rfl rfl)
theorem dX4_mayExchange_43 : decode cX4_mayExchange 43 = .ok (.getfield 19, 3) := dk_180 0 19 (dk_at dksX4_mayExchange_1 21 rfl rfl)
theorem dX4_mayExchange_46 : decode cX4_mayExchange 46 = .ok (.iload_n 2, 1) := dk_28 (dk_at dksX4_mayExchange_2 0 rfl rfl)
theorem dX4_mayExchange_47 : decode cX4_mayExchange 47 = .ok (.iaload, 1) := dk_46 (dk_at dksX4_mayExchange_2 1 rfl rfl)
theorem dX4_mayExchange_48 : decode cX4_mayExchange 48 = .ok (.ifCond .ne 5, 3) := dk_154 0 5 (dk_at dksX4_mayExchange_2 2 rfl rfl)
theorem dX4_mayExchange_51 : decode cX4_mayExchange 51 = .ok (.iconst 2, 1) := dk_5 (dk_at dksX4_mayExchange_2 5 rfl rfl)
theorem dX4_mayExchange_52 : decode cX4_mayExchange 52 = .ok (.ireturn, 1) := dk_172 (dk_at dksX4_mayExchange_2 6 rfl rfl)
theorem dX4_mayExchange_53 : decode cX4_mayExchange 53 = .ok (.aload_n 0, 1) := dk_42 (dk_at dksX4_mayExchange_2 7 rfl rfl)
theorem dX4_mayExchange_54 : decode cX4_mayExchange 54 = .ok (.getfield 30, 3) := dk_180 0 30 (dk_at dksX4_mayExchange_2 8 rfl rfl)
theorem dX4_mayExchange_57 : decode cX4_mayExchange 57 = .ok (.aload_n 0, 1) := dk_42 (dk_at dksX4_mayExchange_2 11 rfl rfl)
theorem dX4_mayExchange_58 : decode cX4_mayExchange 58 = .ok (.iload_n 1, 1) := dk_27 (dk_at dksX4_mayExchange_2 12 rfl rfl)
theorem dX4_mayExchange_59 : decode cX4_mayExchange 59 = .ok (.invokevirtual 82, 3) := dk_182 0 82 (dk_at dksX4_mayExchange_2 13 rfl rfl)
theorem dX4_mayExchange_62 : decode cX4_mayExchange 62 = .ok (.invokestatic 138, 3) := dk_184 0 138 (dk_at dksX4_mayExchange_2 16 rfl rfl)
theorem dX4_mayExchange_65 : decode cX4_mayExchange 65 = .ok (.ifCond .ne 18, 3) := dk_154 0 18 (dk_at dksX4_mayExchange_2 19 rfl rfl)
theorem dX4_mayExchange_68 : decode cX4_mayExchange 68 = .ok (.aload_n 0, 1) := dk_42 (dk_at dksX4_mayExchange_2 22 rfl rfl)
theorem dX4_mayExchange_69 : decode cX4_mayExchange 69 = .ok (.getfield 30, 3) := dk_180 0 30 (dk_at dksX4_mayExchange_3 0 rfl rfl)
theorem dX4_mayExchange_72 : decode cX4_mayExchange 72 = .ok (.aload_n 0, 1) := dk_42 (dk_at dksX4_mayExchange_3 3 rfl rfl)
theorem dX4_mayExchange_73 : decode cX4_mayExchange 73 = .ok (.iload_n 2, 1) := dk_28 (dk_at dksX4_mayExchange_3 4 rfl rfl)
theorem dX4_mayExchange_74 : decode cX4_mayExchange 74 = .ok (.invokevirtual 82, 3) := dk_182 0 82 (dk_at dksX4_mayExchange_3 5 rfl rfl)
theorem dX4_mayExchange_77 : decode cX4_mayExchange 77 = .ok (.invokestatic 138, 3) := dk_184 0 138 (dk_at dksX4_mayExchange_3 8 rfl rfl)
theorem dX4_mayExchange_80 : decode cX4_mayExchange 80 = .ok (.ifCond .eq 5, 3) := dk_153 0 5 (dk_at dksX4_mayExchange_3 11 rfl rfl)
theorem dX4_mayExchange_83 : decode cX4_mayExchange 83 = .ok (.iconst 3, 1) := dk_6 (dk_at dksX4_mayExchange_3 14 rfl rfl)
theorem dX4_mayExchange_84 : decode cX4_mayExchange 84 = .ok (.ireturn, 1) := dk_172 (dk_at dksX4_mayExchange_3 15 rfl rfl)
theorem dX4_mayExchange_85 : decode cX4_mayExchange 85 = .ok (.aload_n 0, 1) := dk_42 (dk_at dksX4_mayExchange_3 16 rfl rfl)
theorem dX4_mayExchange_86 : decode cX4_mayExchange 86 = .ok (.iload_n 1, 1) := dk_27 (dk_at dksX4_mayExchange_3 17 rfl rfl)
theorem dX4_mayExchange_87 : decode cX4_mayExchange 87 = .ok (.iload_n 2, 1) := dk_28 (dk_at dksX4_mayExchange_3 18 rfl rfl)
theorem dX4_mayExchange_88 : decode cX4_mayExchange 88 = .ok (.invokevirtual 145, 3) := dk_182 0 145 (dk_at dksX4_mayExchange_3 19 rfl rfl)
theorem dX4_mayExchange_91 : decode cX4_mayExchange 91 = .ok (.ifCond .ne 5, 3) := dk_154 0 5 (dk_at dksX4_mayExchange_4 0 rfl rfl)
theorem dX4_mayExchange_94 : decode cX4_mayExchange 94 = .ok (.iconst 5, 1) := dk_8 (dk_at dksX4_mayExchange_4 3 rfl rfl)
theorem dX4_mayExchange_95 : decode cX4_mayExchange 95 = .ok (.ireturn, 1) := dk_172 (dk_at dksX4_mayExchange_4 4 rfl rfl)
theorem dX4_mayExchange_96 : decode cX4_mayExchange 96 = .ok (.aload_n 0, 1) := dk_42 (dk_at dksX4_mayExchange_4 5 rfl rfl)
theorem dX4_mayExchange_97 : decode cX4_mayExchange 97 = .ok (.iload_n 1, 1) := dk_27 (dk_at dksX4_mayExchange_4 6 rfl rfl)
theorem dX4_mayExchange_98 : decode cX4_mayExchange 98 = .ok (.aload_n 0, 1) := dk_42 (dk_at dksX4_mayExchange_4 7 rfl rfl)
theorem dX4_mayExchange_99 : decode cX4_mayExchange 99 = .ok (.getfield 19, 3) := dk_180 0 19 (dk_at dksX4_mayExchange_4 8 rfl rfl)
theorem dX4_mayExchange_102 : decode cX4_mayExchange 102 = .ok (.iload_n 1, 1) := dk_27 (dk_at dksX4_mayExchange_4 11 rfl rfl)
theorem dX4_mayExchange_103 : decode cX4_mayExchange 103 = .ok (.iaload, 1) := dk_46 (dk_at dksX4_mayExchange_4 12 rfl rfl)
theorem dX4_mayExchange_104 : decode cX4_mayExchange 104 = .ok (.iconst 1, 1) := dk_4 (dk_at dksX4_mayExchange_4 13 rfl rfl)
theorem dX4_mayExchange_105 : decode cX4_mayExchange 105 = .ok (.isub, 1) := dk_100 (dk_at dksX4_mayExchange_4 14 rfl rfl)
theorem dX4_mayExchange_106 : decode cX4_mayExchange 106 = .ok (.aload_n 0, 1) := dk_42 (dk_at dksX4_mayExchange_4 15 rfl rfl)
theorem dX4_mayExchange_107 : decode cX4_mayExchange 107 = .ok (.aload_n 0, 1) := dk_42 (dk_at dksX4_mayExchange_4 16 rfl rfl)
theorem dX4_mayExchange_108 : decode cX4_mayExchange 108 = .ok (.iload_n 2, 1) := dk_28 (dk_at dksX4_mayExchange_4 17 rfl rfl)
theorem dX4_mayExchange_109 : decode cX4_mayExchange 109 = .ok (.invokevirtual 82, 3) := dk_182 0 82 (dk_at dksX4_mayExchange_4 18 rfl rfl)
theorem dX4_mayExchange_112 : decode cX4_mayExchange 112 = .ok (.invokevirtual 67, 3) := dk_182 0 67 (dk_at dksX4_mayExchange_4 21 rfl rfl)
theorem dX4_mayExchange_115 : decode cX4_mayExchange 115 = .ok (.invokevirtual 148, 3) := dk_182 0 148 (dk_at dksX4_mayExchange_5 0 rfl rfl)
theorem dX4_mayExchange_118 : decode cX4_mayExchange 118 = .ok (.ifCond .eq 28, 3) := dk_153 0 28 (dk_at dksX4_mayExchange_5 3 rfl rfl)
theorem dX4_mayExchange_121 : decode cX4_mayExchange 121 = .ok (.aload_n 0, 1) := dk_42 (dk_at dksX4_mayExchange_5 6 rfl rfl)
theorem dX4_mayExchange_122 : decode cX4_mayExchange 122 = .ok (.iload_n 2, 1) := dk_28 (dk_at dksX4_mayExchange_5 7 rfl rfl)
theorem dX4_mayExchange_123 : decode cX4_mayExchange 123 = .ok (.aload_n 0, 1) := dk_42 (dk_at dksX4_mayExchange_5 8 rfl rfl)
theorem dX4_mayExchange_124 : decode cX4_mayExchange 124 = .ok (.getfield 19, 3) := dk_180 0 19 (dk_at dksX4_mayExchange_5 9 rfl rfl)
theorem dX4_mayExchange_127 : decode cX4_mayExchange 127 = .ok (.iload_n 2, 1) := dk_28 (dk_at dksX4_mayExchange_5 12 rfl rfl)
theorem dX4_mayExchange_128 : decode cX4_mayExchange 128 = .ok (.iaload, 1) := dk_46 (dk_at dksX4_mayExchange_5 13 rfl rfl)
theorem dX4_mayExchange_129 : decode cX4_mayExchange 129 = .ok (.iconst 1, 1) := dk_4 (dk_at dksX4_mayExchange_5 14 rfl rfl)
theorem dX4_mayExchange_130 : decode cX4_mayExchange 130 = .ok (.isub, 1) := dk_100 (dk_at dksX4_mayExchange_5 15 rfl rfl)
theorem dX4_mayExchange_131 : decode cX4_mayExchange 131 = .ok (.aload_n 0, 1) := dk_42 (dk_at dksX4_mayExchange_5 16 rfl rfl)
theorem dX4_mayExchange_132 : decode cX4_mayExchange 132 = .ok (.aload_n 0, 1) := dk_42 (dk_at dksX4_mayExchange_5 17 rfl rfl)
theorem dX4_mayExchange_133 : decode cX4_mayExchange 133 = .ok (.iload_n 1, 1) := dk_27 (dk_at dksX4_mayExchange_5 18 rfl rfl)
theorem dX4_mayExchange_134 : decode cX4_mayExchange 134 = .ok (.invokevirtual 82, 3) := dk_182 0 82 (dk_at dksX4_mayExchange_5 19 rfl rfl)
theorem dX4_mayExchange_137 : decode cX4_mayExchange 137 = .ok (.invokevirtual 67, 3) := dk_182 0 67 (dk_at dksX4_mayExchange_6 0 rfl rfl)
theorem dX4_mayExchange_140 : decode cX4_mayExchange 140 = .ok (.invokevirtual 148, 3) := dk_182 0 148 (dk_at dksX4_mayExchange_6 3 rfl rfl)
theorem dX4_mayExchange_143 : decode cX4_mayExchange 143 = .ok (.ifCond .ne 6, 3) := dk_154 0 6 (dk_at dksX4_mayExchange_6 6 rfl rfl)
theorem dX4_mayExchange_146 : decode cX4_mayExchange 146 = .ok (.bipush 6, 2) := dk_16 6 (dk_at dksX4_mayExchange_6 9 rfl rfl)
theorem dX4_mayExchange_148 : decode cX4_mayExchange 148 = .ok (.ireturn, 1) := dk_172 (dk_at dksX4_mayExchange_6 11 rfl rfl)
theorem dX4_mayExchange_149 : decode cX4_mayExchange 149 = .ok (.aload_n 0, 1) := dk_42 (dk_at dksX4_mayExchange_6 12 rfl rfl)
theorem dX4_mayExchange_150 : decode cX4_mayExchange 150 = .ok (.iload_n 1, 1) := dk_27 (dk_at dksX4_mayExchange_6 13 rfl rfl)
theorem dX4_mayExchange_151 : decode cX4_mayExchange 151 = .ok (.iload_n 2, 1) := dk_28 (dk_at dksX4_mayExchange_6 14 rfl rfl)
theorem dX4_mayExchange_152 : decode cX4_mayExchange 152 = .ok (.aload_n 0, 1) := dk_42 (dk_at dksX4_mayExchange_6 15 rfl rfl)
theorem dX4_mayExchange_153 : decode cX4_mayExchange 153 = .ok (.getfield 19, 3) := dk_180 0 19 (dk_at dksX4_mayExchange_6 16 rfl rfl)
theorem dX4_mayExchange_156 : decode cX4_mayExchange 156 = .ok (.iload_n 2, 1) := dk_28 (dk_at dksX4_mayExchange_6 19 rfl rfl)
theorem dX4_mayExchange_157 : decode cX4_mayExchange 157 = .ok (.iaload, 1) := dk_46 (dk_at dksX4_mayExchange_6 20 rfl rfl)
theorem dX4_mayExchange_158 : decode cX4_mayExchange 158 = .ok (.iconst 1, 1) := dk_4 (dk_at dksX4_mayExchange_6 21 rfl rfl)
theorem dX4_mayExchange_159 : decode cX4_mayExchange 159 = .ok (.isub, 1) := dk_100 (dk_at dksX4_mayExchange_6 22 rfl rfl)
theorem dX4_mayExchange_160 : decode cX4_mayExchange 160 = .ok (.invokevirtual 151, 3) := dk_182 0 151 (dk_at dksX4_mayExchange_7 0 rfl rfl)
theorem dX4_mayExchange_163 : decode cX4_mayExchange 163 = .ok (.ifCond .ne 20, 3) := dk_154 0 20 (dk_at dksX4_mayExchange_7 3 rfl rfl)
theorem dX4_mayExchange_166 : decode cX4_mayExchange 166 = .ok (.aload_n 0, 1) := dk_42 (dk_at dksX4_mayExchange_7 6 rfl rfl)
theorem dX4_mayExchange_167 : decode cX4_mayExchange 167 = .ok (.iload_n 2, 1) := dk_28 (dk_at dksX4_mayExchange_7 7 rfl rfl)
theorem dX4_mayExchange_168 : decode cX4_mayExchange 168 = .ok (.iload_n 1, 1) := dk_27 (dk_at dksX4_mayExchange_7 8 rfl rfl)
theorem dX4_mayExchange_169 : decode cX4_mayExchange 169 = .ok (.aload_n 0, 1) := dk_42 (dk_at dksX4_mayExchange_7 9 rfl rfl)
theorem dX4_mayExchange_170 : decode cX4_mayExchange 170 = .ok (.getfield 19, 3) := dk_180 0 19 (dk_at dksX4_mayExchange_7 10 rfl rfl)
theorem dX4_mayExchange_173 : decode cX4_mayExchange 173 = .ok (.iload_n 1, 1) := dk_27 (dk_at dksX4_mayExchange_7 13 rfl rfl)
theorem dX4_mayExchange_174 : decode cX4_mayExchange 174 = .ok (.iaload, 1) := dk_46 (dk_at dksX4_mayExchange_7 14 rfl rfl)
theorem dX4_mayExchange_175 : decode cX4_mayExchange 175 = .ok (.iconst 1, 1) := dk_4 (dk_at dksX4_mayExchange_7 15 rfl rfl)
theorem dX4_mayExchange_176 : decode cX4_mayExchange 176 = .ok (.isub, 1) := dk_100 (dk_at dksX4_mayExchange_7 16 rfl rfl)
theorem dX4_mayExchange_177 : decode cX4_mayExchange 177 = .ok (.invokevirtual 151, 3) := dk_182 0 151 (dk_at dksX4_mayExchange_7 17 rfl rfl)
theorem dX4_mayExchange_180 : decode cX4_mayExchange 180 = .ok (.ifCond .eq 6, 3) := dk_153 0 6 (dk_at dksX4_mayExchange_7 20 rfl rfl)
theorem dX4_mayExchange_183 : decode cX4_mayExchange 183 = .ok (.bipush 7, 2) := dk_16 7 (dk_at dksX4_mayExchange_8 0 rfl rfl)
theorem dX4_mayExchange_185 : decode cX4_mayExchange 185 = .ok (.ireturn, 1) := dk_172 (dk_at dksX4_mayExchange_8 2 rfl rfl)
theorem dX4_mayExchange_186 : decode cX4_mayExchange 186 = .ok (.aload_n 0, 1) := dk_42 (dk_at dksX4_mayExchange_8 3 rfl rfl)
theorem dX4_mayExchange_187 : decode cX4_mayExchange 187 = .ok (.getfield 30, 3) := dk_180 0 30 (dk_at dksX4_mayExchange_8 4 rfl rfl)
theorem dX4_mayExchange_190 : decode cX4_mayExchange 190 = .ok (.invokestatic 157, 3) := dk_184 0 157 (dk_at dksX4_mayExchange_8 7 rfl rfl)
theorem dX4_mayExchange_193 : decode cX4_mayExchange 193 = .ok (.iconst 2, 1) := dk_5 (dk_at dksX4_mayExchange_8 10 rfl rfl)
theorem dX4_mayExchange_194 : decode cX4_mayExchange 194 = .ok (.iadd, 1) := dk_96 (dk_at dksX4_mayExchange_8 11 rfl rfl)
theorem dX4_mayExchange_195 : decode cX4_mayExchange 195 = .ok (.aload_n 0, 1) := dk_42 (dk_at dksX4_mayExchange_8 12 rfl rfl)
theorem dX4_mayExchange_196 : decode cX4_mayExchange 196 = .ok (.getfield 26, 3) := dk_180 0 26 (dk_at dksX4_mayExchange_8 13 rfl rfl)
theorem dX4_mayExchange_199 : decode cX4_mayExchange 199 = .ok (.getfield 162, 3) := dk_180 0 162 (dk_at dksX4_mayExchange_8 16 rfl rfl)
theorem dX4_mayExchange_202 : decode cX4_mayExchange 202 = .ok (.if_icmp .le 8, 3) := dk_164 0 8 (dk_at dksX4_mayExchange_8 19 rfl rfl)
theorem dX4_mayExchange_205 : decode cX4_mayExchange 205 = .ok (.bipush 9, 2) := dk_16 9 (dk_at dksX4_mayExchange_8 22 rfl rfl)
theorem dX4_mayExchange_207 : decode cX4_mayExchange 207 = .ok (.goto 4, 3) := dk_167 0 4 (dk_at dksX4_mayExchange_9 0 rfl rfl)
theorem dX4_mayExchange_210 : decode cX4_mayExchange 210 = .ok (.iconst 0, 1) := dk_3 (dk_at dksX4_mayExchange_9 3 rfl rfl)
theorem dX4_mayExchange_211 : decode cX4_mayExchange 211 = .ok (.ireturn, 1) := dk_172 (dk_at dksX4_mayExchange_9 4 rfl rfl)
abbrev cX4_carries : ByteArray := prog_14_method_13_code
def yX4_carries : MethodName := ⟨RX4, "carries", "(IIZ)I"⟩
def dkwX4_carries_3 : List UInt8 := [21, 4, 120, 128, 181, 0, 30, 21, 4, 172]
abbrev dktX4_carries_3 : List UInt8 := dkwX4_carries_3 ++ []
def dkwX4_carries_2 : List UInt8 := [96, 21, 4, 79, 42, 180, 0, 19, 28, 92, 46, 4, 96, 79, 29, 153, 0, 16, 42, 89, 180, 0, 30, 4]
abbrev dktX4_carries_2 : List UInt8 := dkwX4_carries_2 ++ dktX4_carries_3
def dkwX4_carries_1 : List UInt8 := [79, 42, 180, 0, 19, 27, 92, 46, 4, 100, 79, 42, 180, 0, 15, 6, 28, 104, 42, 180, 0, 19, 28, 46]
abbrev dktX4_carries_1 : List UInt8 := dkwX4_carries_1 ++ dktX4_carries_2
def dkwX4_carries_0 : List UInt8 := [42, 27, 182, 0, 82, 54, 4, 42, 180, 0, 15, 6, 27, 104, 42, 180, 0, 19, 27, 46, 96, 4, 100, 2]
abbrev dktX4_carries_0 : List UInt8 := dkwX4_carries_0 ++ dktX4_carries_1
theorem dksX4_carries_0 : cX4_carries.data.toList.drop 0 = dktX4_carries_0 := by decide +kernel
theorem dksX4_carries_1 : cX4_carries.data.toList.drop 24 = dktX4_carries_1 := dk_seg dksX4_carries_0 24 rfl rfl
theorem dksX4_carries_2 : cX4_carries.data.toList.drop 48 = dktX4_carries_2 := dk_seg dksX4_carries_1 24 rfl rfl
theorem dksX4_carries_3 : cX4_carries.data.toList.drop 72 = dktX4_carries_3 := dk_seg dksX4_carries_2 24 rfl rfl
theorem dX4_carries_0 : decode cX4_carries 0 = .ok (.aload_n 0, 1) := dk_42 (dk_at dksX4_carries_0 0 rfl rfl)
theorem dX4_carries_1 : decode cX4_carries 1 = .ok (.iload_n 1, 1) := dk_27 (dk_at dksX4_carries_0 1 rfl rfl)
theorem dX4_carries_2 : decode cX4_carries 2 = .ok (.invokevirtual 82, 3) := dk_182 0 82 (dk_at dksX4_carries_0 2 rfl rfl)
theorem dX4_carries_5 : decode cX4_carries 5 = .ok (.istore 4, 2) := dk_54 4 (dk_at dksX4_carries_0 5 rfl rfl)
theorem dX4_carries_7 : decode cX4_carries 7 = .ok (.aload_n 0, 1) := dk_42 (dk_at dksX4_carries_0 7 rfl rfl)
theorem dX4_carries_8 : decode cX4_carries 8 = .ok (.getfield 15, 3) := dk_180 0 15 (dk_at dksX4_carries_0 8 rfl rfl)
theorem dX4_carries_11 : decode cX4_carries 11 = .ok (.iconst 3, 1) := dk_6 (dk_at dksX4_carries_0 11 rfl rfl)
theorem dX4_carries_12 : decode cX4_carries 12 = .ok (.iload_n 1, 1) := dk_27 (dk_at dksX4_carries_0 12 rfl rfl)
theorem dX4_carries_13 : decode cX4_carries 13 = .ok (.imul, 1) := dk_104 (dk_at dksX4_carries_0 13 rfl rfl)
theorem dX4_carries_14 : decode cX4_carries 14 = .ok (.aload_n 0, 1) := dk_42 (dk_at dksX4_carries_0 14 rfl rfl)
theorem dX4_carries_15 : decode cX4_carries 15 = .ok (.getfield 19, 3) := dk_180 0 19 (dk_at dksX4_carries_0 15 rfl rfl)
theorem dX4_carries_18 : decode cX4_carries 18 = .ok (.iload_n 1, 1) := dk_27 (dk_at dksX4_carries_0 18 rfl rfl)
theorem dX4_carries_19 : decode cX4_carries 19 = .ok (.iaload, 1) := dk_46 (dk_at dksX4_carries_0 19 rfl rfl)
theorem dX4_carries_20 : decode cX4_carries 20 = .ok (.iadd, 1) := dk_96 (dk_at dksX4_carries_0 20 rfl rfl)
theorem dX4_carries_21 : decode cX4_carries 21 = .ok (.iconst 1, 1) := dk_4 (dk_at dksX4_carries_0 21 rfl rfl)
theorem dX4_carries_22 : decode cX4_carries 22 = .ok (.isub, 1) := dk_100 (dk_at dksX4_carries_0 22 rfl rfl)
theorem dX4_carries_23 : decode cX4_carries 23 = .ok (.iconst (-1), 1) := dk_2 (dk_at dksX4_carries_0 23 rfl rfl)
theorem dX4_carries_24 : decode cX4_carries 24 = .ok (.iastore, 1) := dk_79 (dk_at dksX4_carries_1 0 rfl rfl)
theorem dX4_carries_25 : decode cX4_carries 25 = .ok (.aload_n 0, 1) := dk_42 (dk_at dksX4_carries_1 1 rfl rfl)
theorem dX4_carries_26 : decode cX4_carries 26 = .ok (.getfield 19, 3) := dk_180 0 19 (dk_at dksX4_carries_1 2 rfl rfl)
theorem dX4_carries_29 : decode cX4_carries 29 = .ok (.iload_n 1, 1) := dk_27 (dk_at dksX4_carries_1 5 rfl rfl)
theorem dX4_carries_30 : decode cX4_carries 30 = .ok (.dup2, 1) := dk_92 (dk_at dksX4_carries_1 6 rfl rfl)
theorem dX4_carries_31 : decode cX4_carries 31 = .ok (.iaload, 1) := dk_46 (dk_at dksX4_carries_1 7 rfl rfl)
theorem dX4_carries_32 : decode cX4_carries 32 = .ok (.iconst 1, 1) := dk_4 (dk_at dksX4_carries_1 8 rfl rfl)
theorem dX4_carries_33 : decode cX4_carries 33 = .ok (.isub, 1) := dk_100 (dk_at dksX4_carries_1 9 rfl rfl)
theorem dX4_carries_34 : decode cX4_carries 34 = .ok (.iastore, 1) := dk_79 (dk_at dksX4_carries_1 10 rfl rfl)
theorem dX4_carries_35 : decode cX4_carries 35 = .ok (.aload_n 0, 1) := dk_42 (dk_at dksX4_carries_1 11 rfl rfl)
theorem dX4_carries_36 : decode cX4_carries 36 = .ok (.getfield 15, 3) := dk_180 0 15 (dk_at dksX4_carries_1 12 rfl rfl)
theorem dX4_carries_39 : decode cX4_carries 39 = .ok (.iconst 3, 1) := dk_6 (dk_at dksX4_carries_1 15 rfl rfl)
theorem dX4_carries_40 : decode cX4_carries 40 = .ok (.iload_n 2, 1) := dk_28 (dk_at dksX4_carries_1 16 rfl rfl)
theorem dX4_carries_41 : decode cX4_carries 41 = .ok (.imul, 1) := dk_104 (dk_at dksX4_carries_1 17 rfl rfl)
theorem dX4_carries_42 : decode cX4_carries 42 = .ok (.aload_n 0, 1) := dk_42 (dk_at dksX4_carries_1 18 rfl rfl)
theorem dX4_carries_43 : decode cX4_carries 43 = .ok (.getfield 19, 3) := dk_180 0 19 (dk_at dksX4_carries_1 19 rfl rfl)
theorem dX4_carries_46 : decode cX4_carries 46 = .ok (.iload_n 2, 1) := dk_28 (dk_at dksX4_carries_1 22 rfl rfl)
theorem dX4_carries_47 : decode cX4_carries 47 = .ok (.iaload, 1) := dk_46 (dk_at dksX4_carries_1 23 rfl rfl)
theorem dX4_carries_48 : decode cX4_carries 48 = .ok (.iadd, 1) := dk_96 (dk_at dksX4_carries_2 0 rfl rfl)
theorem dX4_carries_49 : decode cX4_carries 49 = .ok (.iload 4, 2) := dk_21 4 (dk_at dksX4_carries_2 1 rfl rfl)
theorem dX4_carries_51 : decode cX4_carries 51 = .ok (.iastore, 1) := dk_79 (dk_at dksX4_carries_2 3 rfl rfl)
theorem dX4_carries_52 : decode cX4_carries 52 = .ok (.aload_n 0, 1) := dk_42 (dk_at dksX4_carries_2 4 rfl rfl)
theorem dX4_carries_53 : decode cX4_carries 53 = .ok (.getfield 19, 3) := dk_180 0 19 (dk_at dksX4_carries_2 5 rfl rfl)
theorem dX4_carries_56 : decode cX4_carries 56 = .ok (.iload_n 2, 1) := dk_28 (dk_at dksX4_carries_2 8 rfl rfl)
theorem dX4_carries_57 : decode cX4_carries 57 = .ok (.dup2, 1) := dk_92 (dk_at dksX4_carries_2 9 rfl rfl)
theorem dX4_carries_58 : decode cX4_carries 58 = .ok (.iaload, 1) := dk_46 (dk_at dksX4_carries_2 10 rfl rfl)
theorem dX4_carries_59 : decode cX4_carries 59 = .ok (.iconst 1, 1) := dk_4 (dk_at dksX4_carries_2 11 rfl rfl)
theorem dX4_carries_60 : decode cX4_carries 60 = .ok (.iadd, 1) := dk_96 (dk_at dksX4_carries_2 12 rfl rfl)
theorem dX4_carries_61 : decode cX4_carries 61 = .ok (.iastore, 1) := dk_79 (dk_at dksX4_carries_2 13 rfl rfl)
theorem dX4_carries_62 : decode cX4_carries 62 = .ok (.iload_n 3, 1) := dk_29 (dk_at dksX4_carries_2 14 rfl rfl)
theorem dX4_carries_63 : decode cX4_carries 63 = .ok (.ifCond .eq 16, 3) := dk_153 0 16 (dk_at dksX4_carries_2 15 rfl rfl)
theorem dX4_carries_66 : decode cX4_carries 66 = .ok (.aload_n 0, 1) := dk_42 (dk_at dksX4_carries_2 18 rfl rfl)
theorem dX4_carries_67 : decode cX4_carries 67 = .ok (.dup, 1) := dk_89 (dk_at dksX4_carries_2 19 rfl rfl)
theorem dX4_carries_68 : decode cX4_carries 68 = .ok (.getfield 30, 3) := dk_180 0 30 (dk_at dksX4_carries_2 20 rfl rfl)
theorem dX4_carries_71 : decode cX4_carries 71 = .ok (.iconst 1, 1) := dk_4 (dk_at dksX4_carries_2 23 rfl rfl)
theorem dX4_carries_72 : decode cX4_carries 72 = .ok (.iload 4, 2) := dk_21 4 (dk_at dksX4_carries_3 0 rfl rfl)
theorem dX4_carries_74 : decode cX4_carries 74 = .ok (.ishl, 1) := dk_120 (dk_at dksX4_carries_3 2 rfl rfl)
theorem dX4_carries_75 : decode cX4_carries 75 = .ok (.ior, 1) := dk_128 (dk_at dksX4_carries_3 3 rfl rfl)
theorem dX4_carries_76 : decode cX4_carries 76 = .ok (.putfield 30, 3) := dk_181 0 30 (dk_at dksX4_carries_3 4 rfl rfl)
theorem dX4_carries_79 : decode cX4_carries 79 = .ok (.iload 4, 2) := dk_21 4 (dk_at dksX4_carries_3 7 rfl rfl)
theorem dX4_carries_81 : decode cX4_carries 81 = .ok (.ireturn, 1) := dk_172 (dk_at dksX4_carries_3 9 rfl rfl)
abbrev cX4_lies : ByteArray := prog_14_method_3_code
def yX4_lies : MethodName := ⟨RX4, "lies", "(J)J"⟩
def dkwX4_lies_3 : List UInt8 := [167, 255, 199, 33, 173]
abbrev dktX4_lies_3 : List UInt8 := dkwX4_lies_3 ++ []
def dkwX4_lies_2 : List UInt8 := [54, 6, 132, 7, 1, 167, 255, 230, 33, 21, 6, 133, 7, 21, 5, 104, 121, 129, 66, 132, 5, 1]
abbrev dktX4_lies_2 : List UInt8 := dkwX4_lies_2 ++ dktX4_lies_3
def dkwX4_lies_1 : List UInt8 := [54, 7, 21, 7, 16, 15, 162, 0, 25, 42, 180, 0, 15, 21, 7, 46, 21, 5, 160, 0, 7, 21, 7]
abbrev dktX4_lies_1 : List UInt8 := dkwX4_lies_1 ++ dktX4_lies_2
def dkwX4_lies_0 : List UInt8 := [42, 180, 0, 30, 133, 16, 32, 121, 66, 3, 54, 5, 21, 5, 16, 8, 162, 0, 56, 16, 15, 54, 6, 3]
abbrev dktX4_lies_0 : List UInt8 := dkwX4_lies_0 ++ dktX4_lies_1
theorem dksX4_lies_0 : cX4_lies.data.toList.drop 0 = dktX4_lies_0 := by decide +kernel
theorem dksX4_lies_1 : cX4_lies.data.toList.drop 24 = dktX4_lies_1 := dk_seg dksX4_lies_0 24 rfl rfl
theorem dksX4_lies_2 : cX4_lies.data.toList.drop 47 = dktX4_lies_2 := dk_seg dksX4_lies_1 23 rfl rfl
theorem dksX4_lies_3 : cX4_lies.data.toList.drop 69 = dktX4_lies_3 := dk_seg dksX4_lies_2 22 rfl rfl
theorem dX4_lies_0 : decode cX4_lies 0 = .ok (.aload_n 0, 1) := dk_42 (dk_at dksX4_lies_0 0 rfl rfl)
theorem dX4_lies_1 : decode cX4_lies 1 = .ok (.getfield 30, 3) := dk_180 0 30 (dk_at dksX4_lies_0 1 rfl rfl)
theorem dX4_lies_4 : decode cX4_lies 4 = .ok (.i2l, 1) := dk_133 (dk_at dksX4_lies_0 4 rfl rfl)
theorem dX4_lies_5 : decode cX4_lies 5 = .ok (.bipush 32, 2) := dk_16 32 (dk_at dksX4_lies_0 5 rfl rfl)
theorem dX4_lies_7 : decode cX4_lies 7 = .ok (.lshl, 1) := dk_121 (dk_at dksX4_lies_0 7 rfl rfl)
theorem dX4_lies_8 : decode cX4_lies 8 = .ok (.lstore_n 3, 1) := dk_66 (dk_at dksX4_lies_0 8 rfl rfl)
theorem dX4_lies_9 : decode cX4_lies 9 = .ok (.iconst 0, 1) := dk_3 (dk_at dksX4_lies_0 9 rfl rfl)
theorem dX4_lies_10 : decode cX4_lies 10 = .ok (.istore 5, 2) := dk_54 5 (dk_at dksX4_lies_0 10 rfl rfl)
theorem dX4_lies_12 : decode cX4_lies 12 = .ok (.iload 5, 2) := dk_21 5 (dk_at dksX4_lies_0 12 rfl rfl)
theorem dX4_lies_14 : decode cX4_lies 14 = .ok (.bipush 8, 2) := dk_16 8 (dk_at dksX4_lies_0 14 rfl rfl)
theorem dX4_lies_16 : decode cX4_lies 16 = .ok (.if_icmp .ge 56, 3) := dk_162 0 56 (dk_at dksX4_lies_0 16 rfl rfl)
theorem dX4_lies_19 : decode cX4_lies 19 = .ok (.bipush 15, 2) := dk_16 15 (dk_at dksX4_lies_0 19 rfl rfl)
theorem dX4_lies_21 : decode cX4_lies 21 = .ok (.istore 6, 2) := dk_54 6 (dk_at dksX4_lies_0 21 rfl rfl)
theorem dX4_lies_23 : decode cX4_lies 23 = .ok (.iconst 0, 1) := dk_3 (dk_at dksX4_lies_0 23 rfl rfl)
theorem dX4_lies_24 : decode cX4_lies 24 = .ok (.istore 7, 2) := dk_54 7 (dk_at dksX4_lies_1 0 rfl rfl)
theorem dX4_lies_26 : decode cX4_lies 26 = .ok (.iload 7, 2) := dk_21 7 (dk_at dksX4_lies_1 2 rfl rfl)
theorem dX4_lies_28 : decode cX4_lies 28 = .ok (.bipush 15, 2) := dk_16 15 (dk_at dksX4_lies_1 4 rfl rfl)
theorem dX4_lies_30 : decode cX4_lies 30 = .ok (.if_icmp .ge 25, 3) := dk_162 0 25 (dk_at dksX4_lies_1 6 rfl rfl)
theorem dX4_lies_33 : decode cX4_lies 33 = .ok (.aload_n 0, 1) := dk_42 (dk_at dksX4_lies_1 9 rfl rfl)
theorem dX4_lies_34 : decode cX4_lies 34 = .ok (.getfield 15, 3) := dk_180 0 15 (dk_at dksX4_lies_1 10 rfl rfl)
theorem dX4_lies_37 : decode cX4_lies 37 = .ok (.iload 7, 2) := dk_21 7 (dk_at dksX4_lies_1 13 rfl rfl)
theorem dX4_lies_39 : decode cX4_lies 39 = .ok (.iaload, 1) := dk_46 (dk_at dksX4_lies_1 15 rfl rfl)
theorem dX4_lies_40 : decode cX4_lies 40 = .ok (.iload 5, 2) := dk_21 5 (dk_at dksX4_lies_1 16 rfl rfl)
theorem dX4_lies_42 : decode cX4_lies 42 = .ok (.if_icmp .ne 7, 3) := dk_160 0 7 (dk_at dksX4_lies_1 18 rfl rfl)
theorem dX4_lies_45 : decode cX4_lies 45 = .ok (.iload 7, 2) := dk_21 7 (dk_at dksX4_lies_1 21 rfl rfl)
theorem dX4_lies_47 : decode cX4_lies 47 = .ok (.istore 6, 2) := dk_54 6 (dk_at dksX4_lies_2 0 rfl rfl)
theorem dX4_lies_49 : decode cX4_lies 49 = .ok (.iinc 7 1, 3) := dk_132 7 1 (dk_at dksX4_lies_2 2 rfl rfl)
theorem dX4_lies_52 : decode cX4_lies 52 = .ok (.goto (-26), 3) := dk_167 255 230 (dk_at dksX4_lies_2 5 rfl rfl)
theorem dX4_lies_55 : decode cX4_lies 55 = .ok (.lload_n 3, 1) := dk_33 (dk_at dksX4_lies_2 8 rfl rfl)
theorem dX4_lies_56 : decode cX4_lies 56 = .ok (.iload 6, 2) := dk_21 6 (dk_at dksX4_lies_2 9 rfl rfl)
theorem dX4_lies_58 : decode cX4_lies 58 = .ok (.i2l, 1) := dk_133 (dk_at dksX4_lies_2 11 rfl rfl)
theorem dX4_lies_59 : decode cX4_lies 59 = .ok (.iconst 4, 1) := dk_7 (dk_at dksX4_lies_2 12 rfl rfl)
theorem dX4_lies_60 : decode cX4_lies 60 = .ok (.iload 5, 2) := dk_21 5 (dk_at dksX4_lies_2 13 rfl rfl)
theorem dX4_lies_62 : decode cX4_lies 62 = .ok (.imul, 1) := dk_104 (dk_at dksX4_lies_2 15 rfl rfl)
theorem dX4_lies_63 : decode cX4_lies 63 = .ok (.lshl, 1) := dk_121 (dk_at dksX4_lies_2 16 rfl rfl)
theorem dX4_lies_64 : decode cX4_lies 64 = .ok (.lor, 1) := dk_129 (dk_at dksX4_lies_2 17 rfl rfl)
theorem dX4_lies_65 : decode cX4_lies 65 = .ok (.lstore_n 3, 1) := dk_66 (dk_at dksX4_lies_2 18 rfl rfl)
theorem dX4_lies_66 : decode cX4_lies 66 = .ok (.iinc 5 1, 3) := dk_132 5 1 (dk_at dksX4_lies_2 19 rfl rfl)
theorem dX4_lies_69 : decode cX4_lies 69 = .ok (.goto (-57), 3) := dk_167 255 199 (dk_at dksX4_lies_3 0 rfl rfl)
theorem dX4_lies_72 : decode cX4_lies 72 = .ok (.lload_n 3, 1) := dk_33 (dk_at dksX4_lies_3 3 rfl rfl)
theorem dX4_lies_73 : decode cX4_lies 73 = .ok (.lreturn, 1) := dk_173 (dk_at dksX4_lies_3 4 rfl rfl)
abbrev cX4_exchanges : ByteArray := prog_14_method_15_code
def yX4_exchanges : MethodName := ⟨RX4, "exchanges", "(II)I"⟩
def dkwX4_exchanges_2 : List UInt8 := [29, 79, 42, 89, 180, 0, 30, 4, 29, 120, 4, 21, 4, 120, 128, 128, 181, 0, 30, 29, 172]
abbrev dktX4_exchanges_2 : List UInt8 := dkwX4_exchanges_2 ++ []
def dkwX4_exchanges_1 : List UInt8 := [27, 46, 96, 4, 100, 21, 4, 79, 42, 180, 0, 15, 6, 28, 104, 42, 180, 0, 19, 28, 46, 96, 4, 100]
abbrev dktX4_exchanges_1 : List UInt8 := dkwX4_exchanges_1 ++ dktX4_exchanges_2
def dkwX4_exchanges_0 : List UInt8 := [42, 27, 182, 0, 82, 62, 42, 28, 182, 0, 82, 54, 4, 42, 180, 0, 15, 6, 27, 104, 42, 180, 0, 19]
abbrev dktX4_exchanges_0 : List UInt8 := dkwX4_exchanges_0 ++ dktX4_exchanges_1
theorem dksX4_exchanges_0 : cX4_exchanges.data.toList.drop 0 = dktX4_exchanges_0 := by decide +kernel
theorem dksX4_exchanges_1 : cX4_exchanges.data.toList.drop 24 = dktX4_exchanges_1 := dk_seg dksX4_exchanges_0 24 rfl rfl
theorem dksX4_exchanges_2 : cX4_exchanges.data.toList.drop 48 = dktX4_exchanges_2 := dk_seg dksX4_exchanges_1 24 rfl rfl
theorem dX4_exchanges_0 : decode cX4_exchanges 0 = .ok (.aload_n 0, 1) := dk_42 (dk_at dksX4_exchanges_0 0 rfl rfl)
theorem dX4_exchanges_1 : decode cX4_exchanges 1 = .ok (.iload_n 1, 1) := dk_27 (dk_at dksX4_exchanges_0 1 rfl rfl)
theorem dX4_exchanges_2 : decode cX4_exchanges 2 = .ok (.invokevirtual 82, 3) := dk_182 0 82 (dk_at dksX4_exchanges_0 2 rfl rfl)
theorem dX4_exchanges_5 : decode cX4_exchanges 5 = .ok (.istore_n 3, 1) := dk_62 (dk_at dksX4_exchanges_0 5 rfl rfl)
theorem dX4_exchanges_6 : decode cX4_exchanges 6 = .ok (.aload_n 0, 1) := dk_42 (dk_at dksX4_exchanges_0 6 rfl rfl)
theorem dX4_exchanges_7 : decode cX4_exchanges 7 = .ok (.iload_n 2, 1) := dk_28 (dk_at dksX4_exchanges_0 7 rfl rfl)
theorem dX4_exchanges_8 : decode cX4_exchanges 8 = .ok (.invokevirtual 82, 3) := dk_182 0 82 (dk_at dksX4_exchanges_0 8 rfl rfl)
theorem dX4_exchanges_11 : decode cX4_exchanges 11 = .ok (.istore 4, 2) := dk_54 4 (dk_at dksX4_exchanges_0 11 rfl rfl)
theorem dX4_exchanges_13 : decode cX4_exchanges 13 = .ok (.aload_n 0, 1) := dk_42 (dk_at dksX4_exchanges_0 13 rfl rfl)
theorem dX4_exchanges_14 : decode cX4_exchanges 14 = .ok (.getfield 15, 3) := dk_180 0 15 (dk_at dksX4_exchanges_0 14 rfl rfl)
theorem dX4_exchanges_17 : decode cX4_exchanges 17 = .ok (.iconst 3, 1) := dk_6 (dk_at dksX4_exchanges_0 17 rfl rfl)
theorem dX4_exchanges_18 : decode cX4_exchanges 18 = .ok (.iload_n 1, 1) := dk_27 (dk_at dksX4_exchanges_0 18 rfl rfl)
theorem dX4_exchanges_19 : decode cX4_exchanges 19 = .ok (.imul, 1) := dk_104 (dk_at dksX4_exchanges_0 19 rfl rfl)
theorem dX4_exchanges_20 : decode cX4_exchanges 20 = .ok (.aload_n 0, 1) := dk_42 (dk_at dksX4_exchanges_0 20 rfl rfl)
theorem dX4_exchanges_21 : decode cX4_exchanges 21 = .ok (.getfield 19, 3) := dk_180 0 19 (dk_at dksX4_exchanges_0 21 rfl rfl)
theorem dX4_exchanges_24 : decode cX4_exchanges 24 = .ok (.iload_n 1, 1) := dk_27 (dk_at dksX4_exchanges_1 0 rfl rfl)
theorem dX4_exchanges_25 : decode cX4_exchanges 25 = .ok (.iaload, 1) := dk_46 (dk_at dksX4_exchanges_1 1 rfl rfl)
theorem dX4_exchanges_26 : decode cX4_exchanges 26 = .ok (.iadd, 1) := dk_96 (dk_at dksX4_exchanges_1 2 rfl rfl)
theorem dX4_exchanges_27 : decode cX4_exchanges 27 = .ok (.iconst 1, 1) := dk_4 (dk_at dksX4_exchanges_1 3 rfl rfl)
theorem dX4_exchanges_28 : decode cX4_exchanges 28 = .ok (.isub, 1) := dk_100 (dk_at dksX4_exchanges_1 4 rfl rfl)
theorem dX4_exchanges_29 : decode cX4_exchanges 29 = .ok (.iload 4, 2) := dk_21 4 (dk_at dksX4_exchanges_1 5 rfl rfl)
theorem dX4_exchanges_31 : decode cX4_exchanges 31 = .ok (.iastore, 1) := dk_79 (dk_at dksX4_exchanges_1 7 rfl rfl)
theorem dX4_exchanges_32 : decode cX4_exchanges 32 = .ok (.aload_n 0, 1) := dk_42 (dk_at dksX4_exchanges_1 8 rfl rfl)
theorem dX4_exchanges_33 : decode cX4_exchanges 33 = .ok (.getfield 15, 3) := dk_180 0 15 (dk_at dksX4_exchanges_1 9 rfl rfl)
theorem dX4_exchanges_36 : decode cX4_exchanges 36 = .ok (.iconst 3, 1) := dk_6 (dk_at dksX4_exchanges_1 12 rfl rfl)
theorem dX4_exchanges_37 : decode cX4_exchanges 37 = .ok (.iload_n 2, 1) := dk_28 (dk_at dksX4_exchanges_1 13 rfl rfl)
theorem dX4_exchanges_38 : decode cX4_exchanges 38 = .ok (.imul, 1) := dk_104 (dk_at dksX4_exchanges_1 14 rfl rfl)
theorem dX4_exchanges_39 : decode cX4_exchanges 39 = .ok (.aload_n 0, 1) := dk_42 (dk_at dksX4_exchanges_1 15 rfl rfl)
theorem dX4_exchanges_40 : decode cX4_exchanges 40 = .ok (.getfield 19, 3) := dk_180 0 19 (dk_at dksX4_exchanges_1 16 rfl rfl)
theorem dX4_exchanges_43 : decode cX4_exchanges 43 = .ok (.iload_n 2, 1) := dk_28 (dk_at dksX4_exchanges_1 19 rfl rfl)
theorem dX4_exchanges_44 : decode cX4_exchanges 44 = .ok (.iaload, 1) := dk_46 (dk_at dksX4_exchanges_1 20 rfl rfl)
theorem dX4_exchanges_45 : decode cX4_exchanges 45 = .ok (.iadd, 1) := dk_96 (dk_at dksX4_exchanges_1 21 rfl rfl)
theorem dX4_exchanges_46 : decode cX4_exchanges 46 = .ok (.iconst 1, 1) := dk_4 (dk_at dksX4_exchanges_1 22 rfl rfl)
theorem dX4_exchanges_47 : decode cX4_exchanges 47 = .ok (.isub, 1) := dk_100 (dk_at dksX4_exchanges_1 23 rfl rfl)
theorem dX4_exchanges_48 : decode cX4_exchanges 48 = .ok (.iload_n 3, 1) := dk_29 (dk_at dksX4_exchanges_2 0 rfl rfl)
theorem dX4_exchanges_49 : decode cX4_exchanges 49 = .ok (.iastore, 1) := dk_79 (dk_at dksX4_exchanges_2 1 rfl rfl)
theorem dX4_exchanges_50 : decode cX4_exchanges 50 = .ok (.aload_n 0, 1) := dk_42 (dk_at dksX4_exchanges_2 2 rfl rfl)
theorem dX4_exchanges_51 : decode cX4_exchanges 51 = .ok (.dup, 1) := dk_89 (dk_at dksX4_exchanges_2 3 rfl rfl)
theorem dX4_exchanges_52 : decode cX4_exchanges 52 = .ok (.getfield 30, 3) := dk_180 0 30 (dk_at dksX4_exchanges_2 4 rfl rfl)
theorem dX4_exchanges_55 : decode cX4_exchanges 55 = .ok (.iconst 1, 1) := dk_4 (dk_at dksX4_exchanges_2 7 rfl rfl)
theorem dX4_exchanges_56 : decode cX4_exchanges 56 = .ok (.iload_n 3, 1) := dk_29 (dk_at dksX4_exchanges_2 8 rfl rfl)
theorem dX4_exchanges_57 : decode cX4_exchanges 57 = .ok (.ishl, 1) := dk_120 (dk_at dksX4_exchanges_2 9 rfl rfl)
theorem dX4_exchanges_58 : decode cX4_exchanges 58 = .ok (.iconst 1, 1) := dk_4 (dk_at dksX4_exchanges_2 10 rfl rfl)
theorem dX4_exchanges_59 : decode cX4_exchanges 59 = .ok (.iload 4, 2) := dk_21 4 (dk_at dksX4_exchanges_2 11 rfl rfl)
theorem dX4_exchanges_61 : decode cX4_exchanges 61 = .ok (.ishl, 1) := dk_120 (dk_at dksX4_exchanges_2 13 rfl rfl)
theorem dX4_exchanges_62 : decode cX4_exchanges 62 = .ok (.ior, 1) := dk_128 (dk_at dksX4_exchanges_2 14 rfl rfl)
theorem dX4_exchanges_63 : decode cX4_exchanges 63 = .ok (.ior, 1) := dk_128 (dk_at dksX4_exchanges_2 15 rfl rfl)
theorem dX4_exchanges_64 : decode cX4_exchanges 64 = .ok (.putfield 30, 3) := dk_181 0 30 (dk_at dksX4_exchanges_2 16 rfl rfl)
theorem dX4_exchanges_67 : decode cX4_exchanges 67 = .ok (.iload_n 3, 1) := dk_29 (dk_at dksX4_exchanges_2 19 rfl rfl)
theorem dX4_exchanges_68 : decode cX4_exchanges 68 = .ok (.ireturn, 1) := dk_172 (dk_at dksX4_exchanges_2 20 rfl rfl)
abbrev cX4_isDone : ByteArray := prog_14_method_16_code
def yX4_isDone : MethodName := ⟨RX4, "isDone", "(I)Z"⟩
def dkwX4_isDone_5 : List UInt8 := [167, 255, 141, 4, 172]
abbrev dktX4_isDone_5 : List UInt8 := dkwX4_isDone_5 ++ []
def dkwX4_isDone_4 : List UInt8 := [180, 0, 89, 45, 180, 0, 181, 21, 4, 46, 159, 0, 5, 3, 172, 132, 4, 1, 167, 255, 205, 132, 2, 1]
abbrev dktX4_isDone_4 : List UInt8 := dkwX4_isDone_4 ++ dktX4_isDone_5
def dkwX4_isDone_3 : List UInt8 := [180, 0, 26, 180, 0, 33, 42, 180, 0, 15, 6, 28, 104, 21, 4, 96, 46, 182, 0, 56, 192, 0, 60]
abbrev dktX4_isDone_3 : List UInt8 := dkwX4_isDone_3 ++ dktX4_isDone_4
def dkwX4_isDone_2 : List UInt8 := [45, 180, 0, 178, 159, 0, 5, 3, 172, 3, 54, 4, 21, 4, 45, 180, 0, 178, 162, 0, 48, 42]
abbrev dktX4_isDone_2 : List UInt8 := dkwX4_isDone_2 ++ dktX4_isDone_3
def dkwX4_isDone_1 : List UInt8 := [182, 0, 56, 192, 0, 173, 78, 45, 27, 182, 0, 175, 154, 0, 6, 167, 0, 75, 42, 180, 0, 19, 28, 46]
abbrev dktX4_isDone_1 : List UInt8 := dkwX4_isDone_1 ++ dktX4_isDone_2
def dkwX4_isDone_0 : List UInt8 := [3, 61, 28, 42, 180, 0, 26, 180, 0, 49, 182, 0, 39, 162, 0, 107, 42, 180, 0, 26, 180, 0, 49, 28]
abbrev dktX4_isDone_0 : List UInt8 := dkwX4_isDone_0 ++ dktX4_isDone_1
theorem dksX4_isDone_0 : cX4_isDone.data.toList.drop 0 = dktX4_isDone_0 := by decide +kernel
theorem dksX4_isDone_1 : cX4_isDone.data.toList.drop 24 = dktX4_isDone_1 := dk_seg dksX4_isDone_0 24 rfl rfl
theorem dksX4_isDone_2 : cX4_isDone.data.toList.drop 48 = dktX4_isDone_2 := dk_seg dksX4_isDone_1 24 rfl rfl
theorem dksX4_isDone_3 : cX4_isDone.data.toList.drop 70 = dktX4_isDone_3 := dk_seg dksX4_isDone_2 22 rfl rfl
theorem dksX4_isDone_4 : cX4_isDone.data.toList.drop 93 = dktX4_isDone_4 := dk_seg dksX4_isDone_3 23 rfl rfl
theorem dksX4_isDone_5 : cX4_isDone.data.toList.drop 117 = dktX4_isDone_5 := dk_seg dksX4_isDone_4 24 rfl rfl
theorem dX4_isDone_0 : decode cX4_isDone 0 = .ok (.iconst 0, 1) := dk_3 (dk_at dksX4_isDone_0 0 rfl rfl)
theorem dX4_isDone_1 : decode cX4_isDone 1 = .ok (.istore_n 2, 1) := dk_61 (dk_at dksX4_isDone_0 1 rfl rfl)
theorem dX4_isDone_2 : decode cX4_isDone 2 = .ok (.iload_n 2, 1) := dk_28 (dk_at dksX4_isDone_0 2 rfl rfl)
theorem dX4_isDone_3 : decode cX4_isDone 3 = .ok (.aload_n 0, 1) := dk_42 (dk_at dksX4_isDone_0 3 rfl rfl)
theorem dX4_isDone_4 : decode cX4_isDone 4 = .ok (.getfield 26, 3) := dk_180 0 26 (dk_at dksX4_isDone_0 4 rfl rfl)
theorem dX4_isDone_7 : decode cX4_isDone 7 = .ok (.getfield 49, 3) := dk_180 0 49 (dk_at dksX4_isDone_0 7 rfl rfl)
theorem dX4_isDone_10 : decode cX4_isDone 10 = .ok (.invokevirtual 39, 3) := dk_182 0 39 (dk_at dksX4_isDone_0 10 rfl rfl)
theorem dX4_isDone_13 : decode cX4_isDone 13 = .ok (.if_icmp .ge 107, 3) := dk_162 0 107 (dk_at dksX4_isDone_0 13 rfl rfl)
theorem dX4_isDone_16 : decode cX4_isDone 16 = .ok (.aload_n 0, 1) := dk_42 (dk_at dksX4_isDone_0 16 rfl rfl)
theorem dX4_isDone_17 : decode cX4_isDone 17 = .ok (.getfield 26, 3) := dk_180 0 26 (dk_at dksX4_isDone_0 17 rfl rfl)
theorem dX4_isDone_20 : decode cX4_isDone 20 = .ok (.getfield 49, 3) := dk_180 0 49 (dk_at dksX4_isDone_0 20 rfl rfl)
theorem dX4_isDone_23 : decode cX4_isDone 23 = .ok (.iload_n 2, 1) := dk_28 (dk_at dksX4_isDone_0 23 rfl rfl)
theorem dX4_isDone_24 : decode cX4_isDone 24 = .ok (.invokevirtual 56, 3) := dk_182 0 56 (dk_at dksX4_isDone_1 0 rfl rfl)
theorem dX4_isDone_27 : decode cX4_isDone 27 = .ok (.checkcast 173, 3) := dk_192 0 173 (dk_at dksX4_isDone_1 3 rfl rfl)
theorem dX4_isDone_30 : decode cX4_isDone 30 = .ok (.astore_n 3, 1) := dk_78 (dk_at dksX4_isDone_1 6 rfl rfl)
theorem dX4_isDone_31 : decode cX4_isDone 31 = .ok (.aload_n 3, 1) := dk_45 (dk_at dksX4_isDone_1 7 rfl rfl)
theorem dX4_isDone_32 : decode cX4_isDone 32 = .ok (.iload_n 1, 1) := dk_27 (dk_at dksX4_isDone_1 8 rfl rfl)
theorem dX4_isDone_33 : decode cX4_isDone 33 = .ok (.invokevirtual 175, 3) := dk_182 0 175 (dk_at dksX4_isDone_1 9 rfl rfl)
theorem dX4_isDone_36 : decode cX4_isDone 36 = .ok (.ifCond .ne 6, 3) := dk_154 0 6 (dk_at dksX4_isDone_1 12 rfl rfl)
theorem dX4_isDone_39 : decode cX4_isDone 39 = .ok (.goto 75, 3) := dk_167 0 75 (dk_at dksX4_isDone_1 15 rfl rfl)
theorem dX4_isDone_42 : decode cX4_isDone 42 = .ok (.aload_n 0, 1) := dk_42 (dk_at dksX4_isDone_1 18 rfl rfl)
theorem dX4_isDone_43 : decode cX4_isDone 43 = .ok (.getfield 19, 3) := dk_180 0 19 (dk_at dksX4_isDone_1 19 rfl rfl)
theorem dX4_isDone_46 : decode cX4_isDone 46 = .ok (.iload_n 2, 1) := dk_28 (dk_at dksX4_isDone_1 22 rfl rfl)
theorem dX4_isDone_47 : decode cX4_isDone 47 = .ok (.iaload, 1) := dk_46 (dk_at dksX4_isDone_1 23 rfl rfl)
theorem dX4_isDone_48 : decode cX4_isDone 48 = .ok (.aload_n 3, 1) := dk_45 (dk_at dksX4_isDone_2 0 rfl rfl)
theorem dX4_isDone_49 : decode cX4_isDone 49 = .ok (.getfield 178, 3) := dk_180 0 178 (dk_at dksX4_isDone_2 1 rfl rfl)
theorem dX4_isDone_52 : decode cX4_isDone 52 = .ok (.if_icmp .eq 5, 3) := dk_159 0 5 (dk_at dksX4_isDone_2 4 rfl rfl)
theorem dX4_isDone_55 : decode cX4_isDone 55 = .ok (.iconst 0, 1) := dk_3 (dk_at dksX4_isDone_2 7 rfl rfl)
theorem dX4_isDone_56 : decode cX4_isDone 56 = .ok (.ireturn, 1) := dk_172 (dk_at dksX4_isDone_2 8 rfl rfl)
theorem dX4_isDone_57 : decode cX4_isDone 57 = .ok (.iconst 0, 1) := dk_3 (dk_at dksX4_isDone_2 9 rfl rfl)
theorem dX4_isDone_58 : decode cX4_isDone 58 = .ok (.istore 4, 2) := dk_54 4 (dk_at dksX4_isDone_2 10 rfl rfl)
theorem dX4_isDone_60 : decode cX4_isDone 60 = .ok (.iload 4, 2) := dk_21 4 (dk_at dksX4_isDone_2 12 rfl rfl)
theorem dX4_isDone_62 : decode cX4_isDone 62 = .ok (.aload_n 3, 1) := dk_45 (dk_at dksX4_isDone_2 14 rfl rfl)
theorem dX4_isDone_63 : decode cX4_isDone 63 = .ok (.getfield 178, 3) := dk_180 0 178 (dk_at dksX4_isDone_2 15 rfl rfl)
theorem dX4_isDone_66 : decode cX4_isDone 66 = .ok (.if_icmp .ge 48, 3) := dk_162 0 48 (dk_at dksX4_isDone_2 18 rfl rfl)
theorem dX4_isDone_69 : decode cX4_isDone 69 = .ok (.aload_n 0, 1) := dk_42 (dk_at dksX4_isDone_2 21 rfl rfl)
theorem dX4_isDone_70 : decode cX4_isDone 70 = .ok (.getfield 26, 3) := dk_180 0 26 (dk_at dksX4_isDone_3 0 rfl rfl)
theorem dX4_isDone_73 : decode cX4_isDone 73 = .ok (.getfield 33, 3) := dk_180 0 33 (dk_at dksX4_isDone_3 3 rfl rfl)
theorem dX4_isDone_76 : decode cX4_isDone 76 = .ok (.aload_n 0, 1) := dk_42 (dk_at dksX4_isDone_3 6 rfl rfl)
theorem dX4_isDone_77 : decode cX4_isDone 77 = .ok (.getfield 15, 3) := dk_180 0 15 (dk_at dksX4_isDone_3 7 rfl rfl)
theorem dX4_isDone_80 : decode cX4_isDone 80 = .ok (.iconst 3, 1) := dk_6 (dk_at dksX4_isDone_3 10 rfl rfl)
theorem dX4_isDone_81 : decode cX4_isDone 81 = .ok (.iload_n 2, 1) := dk_28 (dk_at dksX4_isDone_3 11 rfl rfl)
theorem dX4_isDone_82 : decode cX4_isDone 82 = .ok (.imul, 1) := dk_104 (dk_at dksX4_isDone_3 12 rfl rfl)
theorem dX4_isDone_83 : decode cX4_isDone 83 = .ok (.iload 4, 2) := dk_21 4 (dk_at dksX4_isDone_3 13 rfl rfl)
theorem dX4_isDone_85 : decode cX4_isDone 85 = .ok (.iadd, 1) := dk_96 (dk_at dksX4_isDone_3 15 rfl rfl)
theorem dX4_isDone_86 : decode cX4_isDone 86 = .ok (.iaload, 1) := dk_46 (dk_at dksX4_isDone_3 16 rfl rfl)
theorem dX4_isDone_87 : decode cX4_isDone 87 = .ok (.invokevirtual 56, 3) := dk_182 0 56 (dk_at dksX4_isDone_3 17 rfl rfl)
theorem dX4_isDone_90 : decode cX4_isDone 90 = .ok (.checkcast 60, 3) := dk_192 0 60 (dk_at dksX4_isDone_3 20 rfl rfl)
theorem dX4_isDone_93 : decode cX4_isDone 93 = .ok (.getfield 89, 3) := dk_180 0 89 (dk_at dksX4_isDone_4 0 rfl rfl)
theorem dX4_isDone_96 : decode cX4_isDone 96 = .ok (.aload_n 3, 1) := dk_45 (dk_at dksX4_isDone_4 3 rfl rfl)
theorem dX4_isDone_97 : decode cX4_isDone 97 = .ok (.getfield 181, 3) := dk_180 0 181 (dk_at dksX4_isDone_4 4 rfl rfl)
theorem dX4_isDone_100 : decode cX4_isDone 100 = .ok (.iload 4, 2) := dk_21 4 (dk_at dksX4_isDone_4 7 rfl rfl)
theorem dX4_isDone_102 : decode cX4_isDone 102 = .ok (.iaload, 1) := dk_46 (dk_at dksX4_isDone_4 9 rfl rfl)
theorem dX4_isDone_103 : decode cX4_isDone 103 = .ok (.if_icmp .eq 5, 3) := dk_159 0 5 (dk_at dksX4_isDone_4 10 rfl rfl)
theorem dX4_isDone_106 : decode cX4_isDone 106 = .ok (.iconst 0, 1) := dk_3 (dk_at dksX4_isDone_4 13 rfl rfl)
theorem dX4_isDone_107 : decode cX4_isDone 107 = .ok (.ireturn, 1) := dk_172 (dk_at dksX4_isDone_4 14 rfl rfl)
theorem dX4_isDone_108 : decode cX4_isDone 108 = .ok (.iinc 4 1, 3) := dk_132 4 1 (dk_at dksX4_isDone_4 15 rfl rfl)
theorem dX4_isDone_111 : decode cX4_isDone 111 = .ok (.goto (-51), 3) := dk_167 255 205 (dk_at dksX4_isDone_4 18 rfl rfl)
theorem dX4_isDone_114 : decode cX4_isDone 114 = .ok (.iinc 2 1, 3) := dk_132 2 1 (dk_at dksX4_isDone_4 21 rfl rfl)
theorem dX4_isDone_117 : decode cX4_isDone 117 = .ok (.goto (-115), 3) := dk_167 255 141 (dk_at dksX4_isDone_5 0 rfl rfl)
theorem dX4_isDone_120 : decode cX4_isDone 120 = .ok (.iconst 1, 1) := dk_4 (dk_at dksX4_isDone_5 3 rfl rfl)
theorem dX4_isDone_121 : decode cX4_isDone 121 = .ok (.ireturn, 1) := dk_172 (dk_at dksX4_isDone_5 4 rfl rfl)
abbrev cX4_right : ByteArray := prog_14_method_17_code
def yX4_right : MethodName := ⟨RX4, "right", "(I)I"⟩
def dkwX4_right_3 : List UInt8 := [96, 61, 132, 3, 1, 167, 255, 185, 28, 172]
abbrev dktX4_right_3 : List UInt8 := dkwX4_right_3 ++ []
def dkwX4_right_2 : List UInt8 := [180, 0, 15, 29, 46, 182, 0, 56, 192, 0, 60, 180, 0, 89, 21, 4, 160, 0, 7, 4, 167, 0, 4, 3]
abbrev dktX4_right_2 : List UInt8 := dkwX4_right_2 ++ dktX4_right_3
def dkwX4_right_1 : List UInt8 := [2, 159, 0, 44, 42, 180, 0, 15, 29, 46, 2, 159, 0, 34, 42, 180, 0, 26, 180, 0, 33, 42]
abbrev dktX4_right_1 : List UInt8 := dkwX4_right_1 ++ dktX4_right_2
def dkwX4_right_0 : List UInt8 := [3, 61, 3, 62, 29, 16, 15, 162, 0, 71, 42, 180, 0, 26, 29, 27, 182, 0, 184, 54, 4, 28, 21, 4]
abbrev dktX4_right_0 : List UInt8 := dkwX4_right_0 ++ dktX4_right_1
theorem dksX4_right_0 : cX4_right.data.toList.drop 0 = dktX4_right_0 := by decide +kernel
theorem dksX4_right_1 : cX4_right.data.toList.drop 24 = dktX4_right_1 := dk_seg dksX4_right_0 24 rfl rfl
theorem dksX4_right_2 : cX4_right.data.toList.drop 46 = dktX4_right_2 := dk_seg dksX4_right_1 22 rfl rfl
theorem dksX4_right_3 : cX4_right.data.toList.drop 70 = dktX4_right_3 := dk_seg dksX4_right_2 24 rfl rfl
theorem dX4_right_0 : decode cX4_right 0 = .ok (.iconst 0, 1) := dk_3 (dk_at dksX4_right_0 0 rfl rfl)
theorem dX4_right_1 : decode cX4_right 1 = .ok (.istore_n 2, 1) := dk_61 (dk_at dksX4_right_0 1 rfl rfl)
theorem dX4_right_2 : decode cX4_right 2 = .ok (.iconst 0, 1) := dk_3 (dk_at dksX4_right_0 2 rfl rfl)
theorem dX4_right_3 : decode cX4_right 3 = .ok (.istore_n 3, 1) := dk_62 (dk_at dksX4_right_0 3 rfl rfl)
theorem dX4_right_4 : decode cX4_right 4 = .ok (.iload_n 3, 1) := dk_29 (dk_at dksX4_right_0 4 rfl rfl)
theorem dX4_right_5 : decode cX4_right 5 = .ok (.bipush 15, 2) := dk_16 15 (dk_at dksX4_right_0 5 rfl rfl)
theorem dX4_right_7 : decode cX4_right 7 = .ok (.if_icmp .ge 71, 3) := dk_162 0 71 (dk_at dksX4_right_0 7 rfl rfl)
theorem dX4_right_10 : decode cX4_right 10 = .ok (.aload_n 0, 1) := dk_42 (dk_at dksX4_right_0 10 rfl rfl)
theorem dX4_right_11 : decode cX4_right 11 = .ok (.getfield 26, 3) := dk_180 0 26 (dk_at dksX4_right_0 11 rfl rfl)
theorem dX4_right_14 : decode cX4_right 14 = .ok (.iload_n 3, 1) := dk_29 (dk_at dksX4_right_0 14 rfl rfl)
theorem dX4_right_15 : decode cX4_right 15 = .ok (.iload_n 1, 1) := dk_27 (dk_at dksX4_right_0 15 rfl rfl)
theorem dX4_right_16 : decode cX4_right 16 = .ok (.invokevirtual 184, 3) := dk_182 0 184 (dk_at dksX4_right_0 16 rfl rfl)
theorem dX4_right_19 : decode cX4_right 19 = .ok (.istore 4, 2) := dk_54 4 (dk_at dksX4_right_0 19 rfl rfl)
theorem dX4_right_21 : decode cX4_right 21 = .ok (.iload_n 2, 1) := dk_28 (dk_at dksX4_right_0 21 rfl rfl)
theorem dX4_right_22 : decode cX4_right 22 = .ok (.iload 4, 2) := dk_21 4 (dk_at dksX4_right_0 22 rfl rfl)
theorem dX4_right_24 : decode cX4_right 24 = .ok (.iconst (-1), 1) := dk_2 (dk_at dksX4_right_1 0 rfl rfl)
theorem dX4_right_25 : decode cX4_right 25 = .ok (.if_icmp .eq 44, 3) := dk_159 0 44 (dk_at dksX4_right_1 1 rfl rfl)
theorem dX4_right_28 : decode cX4_right 28 = .ok (.aload_n 0, 1) := dk_42 (dk_at dksX4_right_1 4 rfl rfl)
theorem dX4_right_29 : decode cX4_right 29 = .ok (.getfield 15, 3) := dk_180 0 15 (dk_at dksX4_right_1 5 rfl rfl)
theorem dX4_right_32 : decode cX4_right 32 = .ok (.iload_n 3, 1) := dk_29 (dk_at dksX4_right_1 8 rfl rfl)
theorem dX4_right_33 : decode cX4_right 33 = .ok (.iaload, 1) := dk_46 (dk_at dksX4_right_1 9 rfl rfl)
theorem dX4_right_34 : decode cX4_right 34 = .ok (.iconst (-1), 1) := dk_2 (dk_at dksX4_right_1 10 rfl rfl)
theorem dX4_right_35 : decode cX4_right 35 = .ok (.if_icmp .eq 34, 3) := dk_159 0 34 (dk_at dksX4_right_1 11 rfl rfl)
theorem dX4_right_38 : decode cX4_right 38 = .ok (.aload_n 0, 1) := dk_42 (dk_at dksX4_right_1 14 rfl rfl)
theorem dX4_right_39 : decode cX4_right 39 = .ok (.getfield 26, 3) := dk_180 0 26 (dk_at dksX4_right_1 15 rfl rfl)
theorem dX4_right_42 : decode cX4_right 42 = .ok (.getfield 33, 3) := dk_180 0 33 (dk_at dksX4_right_1 18 rfl rfl)
theorem dX4_right_45 : decode cX4_right 45 = .ok (.aload_n 0, 1) := dk_42 (dk_at dksX4_right_1 21 rfl rfl)
theorem dX4_right_46 : decode cX4_right 46 = .ok (.getfield 15, 3) := dk_180 0 15 (dk_at dksX4_right_2 0 rfl rfl)
theorem dX4_right_49 : decode cX4_right 49 = .ok (.iload_n 3, 1) := dk_29 (dk_at dksX4_right_2 3 rfl rfl)
theorem dX4_right_50 : decode cX4_right 50 = .ok (.iaload, 1) := dk_46 (dk_at dksX4_right_2 4 rfl rfl)
theorem dX4_right_51 : decode cX4_right 51 = .ok (.invokevirtual 56, 3) := dk_182 0 56 (dk_at dksX4_right_2 5 rfl rfl)
theorem dX4_right_54 : decode cX4_right 54 = .ok (.checkcast 60, 3) := dk_192 0 60 (dk_at dksX4_right_2 8 rfl rfl)
theorem dX4_right_57 : decode cX4_right 57 = .ok (.getfield 89, 3) := dk_180 0 89 (dk_at dksX4_right_2 11 rfl rfl)
theorem dX4_right_60 : decode cX4_right 60 = .ok (.iload 4, 2) := dk_21 4 (dk_at dksX4_right_2 14 rfl rfl)
theorem dX4_right_62 : decode cX4_right 62 = .ok (.if_icmp .ne 7, 3) := dk_160 0 7 (dk_at dksX4_right_2 16 rfl rfl)
theorem dX4_right_65 : decode cX4_right 65 = .ok (.iconst 1, 1) := dk_4 (dk_at dksX4_right_2 19 rfl rfl)
theorem dX4_right_66 : decode cX4_right 66 = .ok (.goto 4, 3) := dk_167 0 4 (dk_at dksX4_right_2 20 rfl rfl)
theorem dX4_right_69 : decode cX4_right 69 = .ok (.iconst 0, 1) := dk_3 (dk_at dksX4_right_2 23 rfl rfl)
theorem dX4_right_70 : decode cX4_right 70 = .ok (.iadd, 1) := dk_96 (dk_at dksX4_right_3 0 rfl rfl)
theorem dX4_right_71 : decode cX4_right 71 = .ok (.istore_n 2, 1) := dk_61 (dk_at dksX4_right_3 1 rfl rfl)
theorem dX4_right_72 : decode cX4_right 72 = .ok (.iinc 3 1, 3) := dk_132 3 1 (dk_at dksX4_right_3 2 rfl rfl)
theorem dX4_right_75 : decode cX4_right 75 = .ok (.goto (-71), 3) := dk_167 255 185 (dk_at dksX4_right_3 5 rfl rfl)
theorem dX4_right_78 : decode cX4_right 78 = .ok (.iload_n 2, 1) := dk_28 (dk_at dksX4_right_3 8 rfl rfl)
theorem dX4_right_79 : decode cX4_right 79 = .ok (.ireturn, 1) := dk_172 (dk_at dksX4_right_3 9 rfl rfl)
abbrev cX4_undoes : ByteArray := prog_14_method_14_code
def yX4_undoes : MethodName := ⟨RX4, "undoes", "(III)V"⟩
def dkwX4_undoes_0 : List UInt8 := [42, 28, 27, 3, 182, 0, 169, 87, 42, 29, 181, 0, 30, 177]
abbrev dktX4_undoes_0 : List UInt8 := dkwX4_undoes_0 ++ []
theorem dksX4_undoes_0 : cX4_undoes.data.toList.drop 0 = dktX4_undoes_0 := by decide +kernel
theorem dX4_undoes_0 : decode cX4_undoes 0 = .ok (.aload_n 0, 1) := dk_42 (dk_at dksX4_undoes_0 0 rfl rfl)
theorem dX4_undoes_1 : decode cX4_undoes 1 = .ok (.iload_n 2, 1) := dk_28 (dk_at dksX4_undoes_0 1 rfl rfl)
theorem dX4_undoes_2 : decode cX4_undoes 2 = .ok (.iload_n 1, 1) := dk_27 (dk_at dksX4_undoes_0 2 rfl rfl)
theorem dX4_undoes_3 : decode cX4_undoes 3 = .ok (.iconst 0, 1) := dk_3 (dk_at dksX4_undoes_0 3 rfl rfl)
theorem dX4_undoes_4 : decode cX4_undoes 4 = .ok (.invokevirtual 169, 3) := dk_182 0 169 (dk_at dksX4_undoes_0 4 rfl rfl)
theorem dX4_undoes_7 : decode cX4_undoes 7 = .ok (.pop, 1) := dk_87 (dk_at dksX4_undoes_0 7 rfl rfl)
theorem dX4_undoes_8 : decode cX4_undoes 8 = .ok (.aload_n 0, 1) := dk_42 (dk_at dksX4_undoes_0 8 rfl rfl)
theorem dX4_undoes_9 : decode cX4_undoes 9 = .ok (.iload_n 3, 1) := dk_29 (dk_at dksX4_undoes_0 9 rfl rfl)
theorem dX4_undoes_10 : decode cX4_undoes 10 = .ok (.putfield 30, 3) := dk_181 0 30 (dk_at dksX4_undoes_0 10 rfl rfl)
theorem dX4_undoes_13 : decode cX4_undoes 13 = .ok (.return_, 1) := dk_177 (dk_at dksX4_undoes_0 13 rfl rfl)
theorem q136 : (Jvm.Cond.initialized "StoneYear$Stacks") ∈ lw_all := lw_g (lw_at lw_m1 8 rfl) rfl
theorem q217 : (Jvm.Cond.fieldLinkNest "StoneYear$Stacks" (49 : Nat) "StoneYear$Town" "rows" "Ljava/util/ArrayList;" "StoneYear") ∈ lw_tbl := lw_at lw_m1 89 rfl
theorem q221 : (Jvm.Cond.fieldLinkNest "StoneYear$Stacks" (33 : Nat) "StoneYear$Town" "stones" "Ljava/util/ArrayList;" "StoneYear") ∈ lw_tbl := lw_at lw_m1 93 rfl
theorem q227 : (Jvm.Cond.fieldLinkNest "StoneYear$Stacks" (123 : Nat) "StoneYear$Town" "musts" "Ljava/util/ArrayList;" "StoneYear") ∈ lw_tbl := lw_at lw_m1 99 rfl
theorem q231 : (Jvm.Cond.fieldLinkNest "StoneYear$Stacks" (79 : Nat) "StoneYear$Town" "over" "I" "StoneYear") ∈ lw_tbl := lw_at lw_m1 103 rfl
theorem q235 : (Jvm.Cond.fieldLinkNest "StoneYear$Stacks" (162 : Nat) "StoneYear$Town" "most" "I" "StoneYear") ∈ lw_tbl := lw_at lw_m1 107 rfl
theorem q240 : (Jvm.Cond.fieldLinkNest "StoneYear$Stacks" (165 : Nat) "StoneYear$Town" "rings" "Z" "StoneYear") ∈ lw_tbl := lw_at lw_m1 112 rfl
theorem q269 : (Jvm.Cond.fieldLinkNest "StoneYear$Stacks" (112 : Nat) "StoneYear$State" "bars" "Ljava/util/ArrayList;" "StoneYear") ∈ lw_tbl := lw_at lw_m1 141 rfl
theorem q301 : (Jvm.Cond.fieldLinkNest "StoneYear$Stacks" (92 : Nat) "StoneYear$Going" "sort" "I" "StoneYear") ∈ lw_tbl := lw_at lw_m1 173 rfl
theorem q303 : (Jvm.Cond.fieldLinkNest "StoneYear$Stacks" (95 : Nat) "StoneYear$Going" "size" "I" "StoneYear") ∈ lw_tbl := lw_at lw_m1 175 rfl
theorem q305 : (Jvm.Cond.fieldLinkNest "StoneYear$Stacks" (96 : Nat) "StoneYear$Going" "from" "I" "StoneYear") ∈ lw_tbl := lw_at lw_m1 177 rfl
theorem q307 : (Jvm.Cond.fieldLinkNest "StoneYear$Stacks" (99 : Nat) "StoneYear$Going" "to" "I" "StoneYear") ∈ lw_tbl := lw_at lw_m1 179 rfl
theorem q309 : (Jvm.Cond.fieldLinkNest "StoneYear$Stacks" (102 : Nat) "StoneYear$Going" "level" "I" "StoneYear") ∈ lw_tbl := lw_at lw_m1 181 rfl
theorem q311 : (Jvm.Cond.fieldLinkNest "StoneYear$Stacks" (105 : Nat) "StoneYear$Going" "full" "I" "StoneYear") ∈ lw_tbl := lw_at lw_m1 183 rfl
theorem q327 : (Jvm.Cond.instantiable "StoneYear$Stacks" (6 : Nat)) ∈ lw_all := lw_g (lw_at lw_m1 199 rfl) rfl
theorem q329 : (Jvm.Cond.instanceMethod ({ cls := "StoneYear$Stacks", name := "<init>", desc := "(LStoneYear;)V" } : Jvm.MethodName)) ∈ lw_all := lw_g (lw_at lw_m1 201 rfl) rfl
theorem q330 : (Jvm.Cond.code ({ cls := "StoneYear$Stacks", name := "<init>", desc := "(LStoneYear;)V" } : Jvm.MethodName) prog_14_method_1_code (2 : Nat) (Option.none : Option Jvm.ClassFile.FieldType)) ∈ lw_all := lw_g (lw_at lw_m1 202 rfl) rfl
theorem q331 : (Jvm.Cond.methodLink "StoneYear$Stacks" (9 : Nat) ({ cls := "java/lang/Object", name := "<init>", desc := "()V" } : Jvm.MethodName)) ∈ lw_all := lw_g (lw_at lw_m1 203 rfl) rfl
theorem q332 : (Jvm.Cond.fieldLink "StoneYear$Stacks" (15 : Nat) "StoneYear$Stacks" "at" "[I") ∈ lw_all := lw_g (lw_at lw_m1 204 rfl) rfl
theorem q334 : (Jvm.Cond.fieldLink "StoneYear$Stacks" (19 : Nat) "StoneYear$Stacks" "many" "[I") ∈ lw_all := lw_g (lw_at lw_m1 206 rfl) rfl
theorem q336 : (Jvm.Cond.fieldLink "StoneYear$Stacks" (30 : Nat) "StoneYear$Stacks" "moved" "I") ∈ lw_all := lw_g (lw_at lw_m1 208 rfl) rfl
theorem q338 : (Jvm.Cond.fieldLink "StoneYear$Stacks" (22 : Nat) "StoneYear$Stacks" "without" "I") ∈ lw_all := lw_g (lw_at lw_m1 210 rfl) rfl
theorem q340 : (Jvm.Cond.fieldLink "StoneYear$Stacks" (26 : Nat) "StoneYear$Stacks" "town" "LStoneYear$Town;") ∈ lw_all := lw_g (lw_at lw_m1 212 rfl) rfl
theorem q341 : (Jvm.Cond.fieldLink "StoneYear$Stacks" (3 : Nat) "StoneYear$Stacks" "this$0" "LStoneYear;") ∈ lw_all := lw_g (lw_at lw_m1 213 rfl) rfl
theorem q342 : (Jvm.Cond.laysFinal "StoneYear$Stacks" "StoneYear$Stacks" "at" "[I") ∈ lw_all := lw_g (lw_at lw_m1 214 rfl) rfl
theorem q343 : (Jvm.Cond.soleField "StoneYear$Stacks" "at") ∈ lw_all := lw_g (lw_at lw_m1 215 rfl) rfl
theorem q344 : (Jvm.Cond.laysFinal "StoneYear$Stacks" "StoneYear$Stacks" "many" "[I") ∈ lw_all := lw_g (lw_at lw_m1 216 rfl) rfl
theorem q345 : (Jvm.Cond.soleField "StoneYear$Stacks" "many") ∈ lw_all := lw_g (lw_at lw_m1 217 rfl) rfl
theorem q346 : (Jvm.Cond.lays "StoneYear$Stacks" "StoneYear$Stacks" "moved" "I") ∈ lw_all := lw_g (lw_at lw_m1 218 rfl) rfl
theorem q347 : (Jvm.Cond.soleField "StoneYear$Stacks" "moved") ∈ lw_all := lw_g (lw_at lw_m1 219 rfl) rfl
theorem q348 : (Jvm.Cond.lays "StoneYear$Stacks" "StoneYear$Stacks" "without" "I") ∈ lw_all := lw_g (lw_at lw_m1 220 rfl) rfl
theorem q349 : (Jvm.Cond.soleField "StoneYear$Stacks" "without") ∈ lw_all := lw_g (lw_at lw_m1 221 rfl) rfl
theorem q350 : (Jvm.Cond.lays "StoneYear$Stacks" "StoneYear$Stacks" "town" "LStoneYear$Town;") ∈ lw_all := lw_g (lw_at lw_m1 222 rfl) rfl
theorem q351 : (Jvm.Cond.soleField "StoneYear$Stacks" "town") ∈ lw_all := lw_g (lw_at lw_m1 223 rfl) rfl
theorem q352 : (Jvm.Cond.laysFinal "StoneYear$Stacks" "StoneYear$Stacks" "this$0" "LStoneYear;") ∈ lw_all := lw_g (lw_at lw_m1 224 rfl) rfl
theorem q353 : (Jvm.Cond.soleField "StoneYear$Stacks" "this$0") ∈ lw_all := lw_g (lw_at lw_m1 225 rfl) rfl
theorem q354 : (Jvm.Cond.superclass "StoneYear$Stacks" "java/lang/Object") ∈ lw_all := lw_g (lw_at lw_m1 226 rfl) rfl
theorem q443 : (Jvm.Cond.fieldLinkNest "StoneYear$Stacks" (108 : Nat) "StoneYear" "s" "LStoneYear$State;" "StoneYear") ∈ lw_tbl := lw_at lw_m2 75 rfl
theorem q451 : (Jvm.Cond.fieldLinkNest "StoneYear$Stacks" (85 : Nat) "StoneYear" "going" "LStoneYear$Going;" "StoneYear") ∈ lw_tbl := lw_at lw_m2 83 rfl
theorem q692 : (Jvm.Cond.fieldLinkNest "StoneYear$Stacks" (181 : Nat) "StoneYear$Row" "wish" "[I" "StoneYear") ∈ lw_tbl := lw_at lw_m3 84 rfl
theorem q697 : (Jvm.Cond.fieldLinkNest "StoneYear$Stacks" (178 : Nat) "StoneYear$Row" "wished" "I" "StoneYear") ∈ lw_tbl := lw_at lw_m3 89 rfl
theorem q759 : (Jvm.Cond.selects "StoneYear$Stacks" ({ cls := "java/lang/Object", name := "getClass", desc := "()Ljava/lang/Class;" } : Jvm.MethodName) ({ cls := "java/lang/Object", name := "getClass", desc := "()Ljava/lang/Class;" } : Jvm.MethodName)) ∈ lw_all := lw_g (lw_at lw_m3 151 rfl) rfl
theorem q807 : (Jvm.Cond.fieldLinkNest "StoneYear$Stacks" (89 : Nat) "StoneYear$Stone" "sort" "I" "StoneYear") ∈ lw_tbl := lw_at lw_m3 199 rfl
theorem q810 : (Jvm.Cond.fieldLinkNest "StoneYear$Stacks" (62 : Nat) "StoneYear$Stone" "size" "I" "StoneYear") ∈ lw_tbl := lw_at lw_m3 202 rfl
theorem q815 : (Jvm.Cond.fieldLinkNest "StoneYear$Stacks" (64 : Nat) "StoneYear$Stone" "bears" "I" "StoneYear") ∈ lw_tbl := lw_at lw_m3 207 rfl
theorem q849 : (Jvm.Cond.fieldLink "StoneYear$Stacks" (128 : Nat) "StoneYear$Must" "row" "I") ∈ lw_all := lw_g (lw_at lw_m4 1 rfl) rfl
theorem q988 : (Jvm.Cond.instanceMethod ({ cls := "StoneYear$Stacks", name := "lays", desc := "(LStoneYear$Town;J)LStoneYear$Stacks;" } : Jvm.MethodName)) ∈ lw_all := lw_g (lw_at lw_m4 140 rfl) rfl
theorem q989 : (Jvm.Cond.selects "StoneYear$Stacks" ({ cls := "StoneYear$Stacks", name := "lays", desc := "(LStoneYear$Town;J)LStoneYear$Stacks;" } : Jvm.MethodName) ({ cls := "StoneYear$Stacks", name := "lays", desc := "(LStoneYear$Town;J)LStoneYear$Stacks;" } : Jvm.MethodName)) ∈ lw_all := lw_g (lw_at lw_m4 141 rfl) rfl
theorem q990 : (Jvm.Cond.code ({ cls := "StoneYear$Stacks", name := "lays", desc := "(LStoneYear$Town;J)LStoneYear$Stacks;" } : Jvm.MethodName) prog_14_method_2_code (6 : Nat) (Option.some (Jvm.ClassFile.FieldType.object "StoneYear$Stacks"))) ∈ lw_all := lw_g (lw_at lw_m4 142 rfl) rfl
theorem q991 : (Jvm.Cond.methodLink "StoneYear$Stacks" (39 : Nat) ({ cls := "java/util/ArrayList", name := "size", desc := "()I" } : Jvm.MethodName)) ∈ lw_all := lw_g (lw_at lw_m4 143 rfl) rfl
theorem q992 : (Jvm.Cond.methodLinkNest "StoneYear$Stacks" (45 : Nat) ({ cls := "StoneYear", name := "placeIn", desc := "(JI)I" } : Jvm.MethodName) "StoneYear") ∈ lw_tbl := lw_at lw_m4 144 rfl
theorem q1007 : (Jvm.Cond.privateMethod ({ cls := "StoneYear$Stacks", name := "broken", desc := "(II)I" } : Jvm.MethodName)) ∈ lw_tbl := lw_at lw_m4 159 rfl
theorem q1008 : (Jvm.Cond.instanceMethod ({ cls := "StoneYear$Stacks", name := "broken", desc := "(II)I" } : Jvm.MethodName)) ∈ lw_all := lw_g (lw_at lw_m4 160 rfl) rfl
theorem q1009 : (Jvm.Cond.code ({ cls := "StoneYear$Stacks", name := "broken", desc := "(II)I" } : Jvm.MethodName) prog_14_method_10_code (5 : Nat) (Option.some Jvm.ClassFile.FieldType.int)) ∈ lw_all := lw_g (lw_at lw_m4 161 rfl) rfl
theorem q1010 : (Jvm.Cond.methodLink "StoneYear$Stacks" (56 : Nat) ({ cls := "java/util/ArrayList", name := "get", desc := "(I)Ljava/lang/Object;" } : Jvm.MethodName)) ∈ lw_all := lw_g (lw_at lw_m4 162 rfl) rfl
theorem q1011 : (Jvm.Cond.classLink "StoneYear$Stacks" (126 : Nat) "StoneYear$Must") ∈ lw_all := lw_g (lw_at lw_m4 163 rfl) rfl
theorem q1012 : (Jvm.Cond.methodLink "StoneYear$Stacks" (131 : Nat) ({ cls := "StoneYear$Must", name := "isKept", desc := "(I)Z" } : Jvm.MethodName)) ∈ lw_all := lw_g (lw_at lw_m4 164 rfl) rfl
theorem q1026 : (Jvm.Cond.instanceMethod ({ cls := "StoneYear$Stacks", name := "may", desc := "(II)I" } : Jvm.MethodName)) ∈ lw_all := lw_g (lw_at lw_m4 178 rfl) rfl
theorem q1027 : (Jvm.Cond.selects "StoneYear$Stacks" ({ cls := "StoneYear$Stacks", name := "may", desc := "(II)I" } : Jvm.MethodName) ({ cls := "StoneYear$Stacks", name := "may", desc := "(II)I" } : Jvm.MethodName)) ∈ lw_all := lw_g (lw_at lw_m4 179 rfl) rfl
theorem q1028 : (Jvm.Cond.code ({ cls := "StoneYear$Stacks", name := "may", desc := "(II)I" } : Jvm.MethodName) prog_14_method_11_code (3 : Nat) (Option.some Jvm.ClassFile.FieldType.int)) ∈ lw_all := lw_g (lw_at lw_m4 180 rfl) rfl
theorem q1029 : (Jvm.Cond.methodLink "StoneYear$Stacks" (135 : Nat) ({ cls := "StoneYear$Stacks", name := "isRow", desc := "(I)Z" } : Jvm.MethodName)) ∈ lw_all := lw_g (lw_at lw_m4 181 rfl) rfl
theorem q1030 : (Jvm.Cond.instanceMethod ({ cls := "StoneYear$Stacks", name := "isRow", desc := "(I)Z" } : Jvm.MethodName)) ∈ lw_all := lw_g (lw_at lw_m4 182 rfl) rfl
theorem q1031 : (Jvm.Cond.selects "StoneYear$Stacks" ({ cls := "StoneYear$Stacks", name := "isRow", desc := "(I)Z" } : Jvm.MethodName) ({ cls := "StoneYear$Stacks", name := "isRow", desc := "(I)Z" } : Jvm.MethodName)) ∈ lw_all := lw_g (lw_at lw_m4 183 rfl) rfl
theorem q1032 : (Jvm.Cond.code ({ cls := "StoneYear$Stacks", name := "isRow", desc := "(I)Z" } : Jvm.MethodName) prog_14_method_4_code (2 : Nat) (Option.some Jvm.ClassFile.FieldType.boolean)) ∈ lw_all := lw_g (lw_at lw_m4 184 rfl) rfl
theorem q1033 : (Jvm.Cond.methodLinkNest "StoneYear$Stacks" (52 : Nat) ({ cls := "StoneYear", name := "in", desc := "(JJJ)Z" } : Jvm.MethodName) "StoneYear") ∈ lw_tbl := lw_at lw_m4 185 rfl
theorem q1034 : (Jvm.Cond.methodLink "StoneYear$Stacks" (82 : Nat) ({ cls := "StoneYear$Stacks", name := "top", desc := "(I)I" } : Jvm.MethodName)) ∈ lw_all := lw_g (lw_at lw_m4 186 rfl) rfl
theorem q1035 : (Jvm.Cond.instanceMethod ({ cls := "StoneYear$Stacks", name := "top", desc := "(I)I" } : Jvm.MethodName)) ∈ lw_all := lw_g (lw_at lw_m4 187 rfl) rfl
theorem q1036 : (Jvm.Cond.selects "StoneYear$Stacks" ({ cls := "StoneYear$Stacks", name := "top", desc := "(I)I" } : Jvm.MethodName) ({ cls := "StoneYear$Stacks", name := "top", desc := "(I)I" } : Jvm.MethodName)) ∈ lw_all := lw_g (lw_at lw_m4 188 rfl) rfl
theorem q1037 : (Jvm.Cond.code ({ cls := "StoneYear$Stacks", name := "top", desc := "(I)I" } : Jvm.MethodName) prog_14_method_5_code (2 : Nat) (Option.some Jvm.ClassFile.FieldType.int)) ∈ lw_all := lw_g (lw_at lw_m4 189 rfl) rfl
theorem q1038 : (Jvm.Cond.methodLinkNest "StoneYear$Stacks" (138 : Nat) ({ cls := "StoneYear", name := "has", desc := "(II)Z" } : Jvm.MethodName) "StoneYear") ∈ lw_tbl := lw_at lw_m4 190 rfl
theorem q1041 : (Jvm.Cond.methodLink "StoneYear$Stacks" (142 : Nat) ({ cls := "StoneYear$Town", name := "high", desc := "(I)I" } : Jvm.MethodName)) ∈ lw_all := lw_g (lw_at lw_m4 193 rfl) rfl
theorem q1047 : (Jvm.Cond.methodLink "StoneYear$Stacks" (145 : Nat) ({ cls := "StoneYear$Stacks", name := "isFree", desc := "(II)Z" } : Jvm.MethodName)) ∈ lw_all := lw_g (lw_at lw_m4 199 rfl) rfl
theorem q1048 : (Jvm.Cond.privateMethod ({ cls := "StoneYear$Stacks", name := "isFree", desc := "(II)Z" } : Jvm.MethodName)) ∈ lw_tbl := lw_at lw_m4 200 rfl
theorem q1049 : (Jvm.Cond.instanceMethod ({ cls := "StoneYear$Stacks", name := "isFree", desc := "(II)Z" } : Jvm.MethodName)) ∈ lw_all := lw_g (lw_at lw_m4 201 rfl) rfl
theorem q1050 : (Jvm.Cond.code ({ cls := "StoneYear$Stacks", name := "isFree", desc := "(II)Z" } : Jvm.MethodName) prog_14_method_8_code (4 : Nat) (Option.some Jvm.ClassFile.FieldType.boolean)) ∈ lw_all := lw_g (lw_at lw_m4 202 rfl) rfl
theorem q1051 : (Jvm.Cond.methodLink "StoneYear$Stacks" (70 : Nat) ({ cls := "java/lang/Math", name := "min", desc := "(II)I" } : Jvm.MethodName)) ∈ lw_all := lw_g (lw_at lw_m4 203 rfl) rfl
theorem q1052 : (Jvm.Cond.methodLink "StoneYear$Stacks" (76 : Nat) ({ cls := "java/lang/Math", name := "max", desc := "(II)I" } : Jvm.MethodName)) ∈ lw_all := lw_g (lw_at lw_m4 204 rfl) rfl
theorem q1053 : (Jvm.Cond.methodLink "StoneYear$Stacks" (67 : Nat) ({ cls := "StoneYear$Stacks", name := "size", desc := "(I)I" } : Jvm.MethodName)) ∈ lw_all := lw_g (lw_at lw_m4 205 rfl) rfl
theorem q1054 : (Jvm.Cond.privateMethod ({ cls := "StoneYear$Stacks", name := "size", desc := "(I)I" } : Jvm.MethodName)) ∈ lw_tbl := lw_at lw_m4 206 rfl
theorem q1055 : (Jvm.Cond.instanceMethod ({ cls := "StoneYear$Stacks", name := "size", desc := "(I)I" } : Jvm.MethodName)) ∈ lw_all := lw_g (lw_at lw_m4 207 rfl) rfl
theorem q1056 : (Jvm.Cond.code ({ cls := "StoneYear$Stacks", name := "size", desc := "(I)I" } : Jvm.MethodName) prog_14_method_6_code (2 : Nat) (Option.some Jvm.ClassFile.FieldType.int)) ∈ lw_all := lw_g (lw_at lw_m4 208 rfl) rfl
theorem q1057 : (Jvm.Cond.classLink "StoneYear$Stacks" (60 : Nat) "StoneYear$Stone") ∈ lw_all := lw_g (lw_at lw_m4 209 rfl) rfl
theorem q1058 : (Jvm.Cond.methodLink "StoneYear$Stacks" (148 : Nat) ({ cls := "StoneYear$Stacks", name := "bears", desc := "(III)Z" } : Jvm.MethodName)) ∈ lw_all := lw_g (lw_at lw_m4 210 rfl) rfl
theorem q1059 : (Jvm.Cond.privateMethod ({ cls := "StoneYear$Stacks", name := "bears", desc := "(III)Z" } : Jvm.MethodName)) ∈ lw_tbl := lw_at lw_m4 211 rfl
theorem q1060 : (Jvm.Cond.instanceMethod ({ cls := "StoneYear$Stacks", name := "bears", desc := "(III)Z" } : Jvm.MethodName)) ∈ lw_all := lw_g (lw_at lw_m4 212 rfl) rfl
theorem q1061 : (Jvm.Cond.code ({ cls := "StoneYear$Stacks", name := "bears", desc := "(III)Z" } : Jvm.MethodName) prog_14_method_7_code (7 : Nat) (Option.some Jvm.ClassFile.FieldType.boolean)) ∈ lw_all := lw_g (lw_at lw_m4 213 rfl) rfl
theorem q1062 : (Jvm.Cond.methodLink "StoneYear$Stacks" (151 : Nat) ({ cls := "StoneYear$Stacks", name := "isBarred", desc := "(III)Z" } : Jvm.MethodName)) ∈ lw_all := lw_g (lw_at lw_m4 214 rfl) rfl
theorem q1063 : (Jvm.Cond.privateMethod ({ cls := "StoneYear$Stacks", name := "isBarred", desc := "(III)Z" } : Jvm.MethodName)) ∈ lw_tbl := lw_at lw_m4 215 rfl
theorem q1064 : (Jvm.Cond.instanceMethod ({ cls := "StoneYear$Stacks", name := "isBarred", desc := "(III)Z" } : Jvm.MethodName)) ∈ lw_all := lw_g (lw_at lw_m4 216 rfl) rfl
theorem q1065 : (Jvm.Cond.code ({ cls := "StoneYear$Stacks", name := "isBarred", desc := "(III)Z" } : Jvm.MethodName) prog_14_method_9_code (6 : Nat) (Option.some Jvm.ClassFile.FieldType.boolean)) ∈ lw_all := lw_g (lw_at lw_m4 217 rfl) rfl
theorem q1066 : (Jvm.Cond.classLink "StoneYear$Stacks" (117 : Nat) "StoneYear$Fact") ∈ lw_all := lw_g (lw_at lw_m4 218 rfl) rfl
theorem q1067 : (Jvm.Cond.methodLink "StoneYear$Stacks" (119 : Nat) ({ cls := "StoneYear$Fact", name := "is", desc := "(LStoneYear$Going;)Z" } : Jvm.MethodName)) ∈ lw_all := lw_g (lw_at lw_m4 219 rfl) rfl
theorem q1081 : (Jvm.Cond.methodLink "StoneYear$Stacks" (154 : Nat) ({ cls := "StoneYear$Stacks", name := "broken", desc := "(II)I" } : Jvm.MethodName)) ∈ lw_all := lw_g (lw_at lw_m4 233 rfl) rfl
theorem q1082 : (Jvm.Cond.methodLink "StoneYear$Stacks" (157 : Nat) ({ cls := "java/lang/Integer", name := "bitCount", desc := "(I)I" } : Jvm.MethodName)) ∈ lw_all := lw_g (lw_at lw_m4 234 rfl) rfl
theorem q1093 : (Jvm.Cond.instanceMethod ({ cls := "StoneYear$Stacks", name := "mayExchange", desc := "(II)I" } : Jvm.MethodName)) ∈ lw_all := lw_g (lw_at lw_m5 5 rfl) rfl
theorem q1094 : (Jvm.Cond.selects "StoneYear$Stacks" ({ cls := "StoneYear$Stacks", name := "mayExchange", desc := "(II)I" } : Jvm.MethodName) ({ cls := "StoneYear$Stacks", name := "mayExchange", desc := "(II)I" } : Jvm.MethodName)) ∈ lw_all := lw_g (lw_at lw_m5 6 rfl) rfl
theorem q1095 : (Jvm.Cond.code ({ cls := "StoneYear$Stacks", name := "mayExchange", desc := "(II)I" } : Jvm.MethodName) prog_14_method_12_code (3 : Nat) (Option.some Jvm.ClassFile.FieldType.int)) ∈ lw_all := lw_g (lw_at lw_m5 7 rfl) rfl
theorem q1101 : (Jvm.Cond.instanceMethod ({ cls := "StoneYear$Stacks", name := "carries", desc := "(IIZ)I" } : Jvm.MethodName)) ∈ lw_all := lw_g (lw_at lw_m5 13 rfl) rfl
theorem q1102 : (Jvm.Cond.selects "StoneYear$Stacks" ({ cls := "StoneYear$Stacks", name := "carries", desc := "(IIZ)I" } : Jvm.MethodName) ({ cls := "StoneYear$Stacks", name := "carries", desc := "(IIZ)I" } : Jvm.MethodName)) ∈ lw_all := lw_g (lw_at lw_m5 14 rfl) rfl
theorem q1103 : (Jvm.Cond.code ({ cls := "StoneYear$Stacks", name := "carries", desc := "(IIZ)I" } : Jvm.MethodName) prog_14_method_13_code (5 : Nat) (Option.some Jvm.ClassFile.FieldType.int)) ∈ lw_all := lw_g (lw_at lw_m5 15 rfl) rfl
theorem q1109 : (Jvm.Cond.instanceMethod ({ cls := "StoneYear$Stacks", name := "lies", desc := "(J)J" } : Jvm.MethodName)) ∈ lw_all := lw_g (lw_at lw_m5 21 rfl) rfl
theorem q1110 : (Jvm.Cond.selects "StoneYear$Stacks" ({ cls := "StoneYear$Stacks", name := "lies", desc := "(J)J" } : Jvm.MethodName) ({ cls := "StoneYear$Stacks", name := "lies", desc := "(J)J" } : Jvm.MethodName)) ∈ lw_all := lw_g (lw_at lw_m5 22 rfl) rfl
theorem q1111 : (Jvm.Cond.code ({ cls := "StoneYear$Stacks", name := "lies", desc := "(J)J" } : Jvm.MethodName) prog_14_method_3_code (8 : Nat) (Option.some Jvm.ClassFile.FieldType.long)) ∈ lw_all := lw_g (lw_at lw_m5 23 rfl) rfl
theorem q1117 : (Jvm.Cond.instanceMethod ({ cls := "StoneYear$Stacks", name := "exchanges", desc := "(II)I" } : Jvm.MethodName)) ∈ lw_all := lw_g (lw_at lw_m5 29 rfl) rfl
theorem q1118 : (Jvm.Cond.selects "StoneYear$Stacks" ({ cls := "StoneYear$Stacks", name := "exchanges", desc := "(II)I" } : Jvm.MethodName) ({ cls := "StoneYear$Stacks", name := "exchanges", desc := "(II)I" } : Jvm.MethodName)) ∈ lw_all := lw_g (lw_at lw_m5 30 rfl) rfl
theorem q1119 : (Jvm.Cond.code ({ cls := "StoneYear$Stacks", name := "exchanges", desc := "(II)I" } : Jvm.MethodName) prog_14_method_15_code (5 : Nat) (Option.some Jvm.ClassFile.FieldType.int)) ∈ lw_all := lw_g (lw_at lw_m5 31 rfl) rfl
theorem q1162 : (Jvm.Cond.instanceMethod ({ cls := "StoneYear$Stacks", name := "isDone", desc := "(I)Z" } : Jvm.MethodName)) ∈ lw_all := lw_g (lw_at lw_m5 74 rfl) rfl
theorem q1163 : (Jvm.Cond.selects "StoneYear$Stacks" ({ cls := "StoneYear$Stacks", name := "isDone", desc := "(I)Z" } : Jvm.MethodName) ({ cls := "StoneYear$Stacks", name := "isDone", desc := "(I)Z" } : Jvm.MethodName)) ∈ lw_all := lw_g (lw_at lw_m5 75 rfl) rfl
theorem q1164 : (Jvm.Cond.code ({ cls := "StoneYear$Stacks", name := "isDone", desc := "(I)Z" } : Jvm.MethodName) prog_14_method_16_code (5 : Nat) (Option.some Jvm.ClassFile.FieldType.boolean)) ∈ lw_all := lw_g (lw_at lw_m5 76 rfl) rfl
theorem q1165 : (Jvm.Cond.classLink "StoneYear$Stacks" (173 : Nat) "StoneYear$Row") ∈ lw_all := lw_g (lw_at lw_m5 77 rfl) rfl
theorem q1166 : (Jvm.Cond.methodLink "StoneYear$Stacks" (175 : Nat) ({ cls := "StoneYear$Row", name := "isAsked", desc := "(I)Z" } : Jvm.MethodName)) ∈ lw_all := lw_g (lw_at lw_m5 78 rfl) rfl
theorem q1175 : (Jvm.Cond.instanceMethod ({ cls := "StoneYear$Stacks", name := "right", desc := "(I)I" } : Jvm.MethodName)) ∈ lw_all := lw_g (lw_at lw_m5 87 rfl) rfl
theorem q1176 : (Jvm.Cond.selects "StoneYear$Stacks" ({ cls := "StoneYear$Stacks", name := "right", desc := "(I)I" } : Jvm.MethodName) ({ cls := "StoneYear$Stacks", name := "right", desc := "(I)I" } : Jvm.MethodName)) ∈ lw_all := lw_g (lw_at lw_m5 88 rfl) rfl
theorem q1177 : (Jvm.Cond.code ({ cls := "StoneYear$Stacks", name := "right", desc := "(I)I" } : Jvm.MethodName) prog_14_method_17_code (5 : Nat) (Option.some Jvm.ClassFile.FieldType.int)) ∈ lw_all := lw_g (lw_at lw_m5 89 rfl) rfl
theorem q1178 : (Jvm.Cond.methodLink "StoneYear$Stacks" (184 : Nat) ({ cls := "StoneYear$Town", name := "wished", desc := "(II)I" } : Jvm.MethodName)) ∈ lw_all := lw_g (lw_at lw_m5 90 rfl) rfl
theorem q1278 : (Jvm.Cond.instanceMethod ({ cls := "StoneYear$Stacks", name := "undoes", desc := "(III)V" } : Jvm.MethodName)) ∈ lw_all := lw_g (lw_at lw_m5 190 rfl) rfl
theorem q1279 : (Jvm.Cond.selects "StoneYear$Stacks" ({ cls := "StoneYear$Stacks", name := "undoes", desc := "(III)V" } : Jvm.MethodName) ({ cls := "StoneYear$Stacks", name := "undoes", desc := "(III)V" } : Jvm.MethodName)) ∈ lw_all := lw_g (lw_at lw_m5 191 rfl) rfl
theorem q1280 : (Jvm.Cond.code ({ cls := "StoneYear$Stacks", name := "undoes", desc := "(III)V" } : Jvm.MethodName) prog_14_method_14_code (4 : Nat) (Option.none : Option Jvm.ClassFile.FieldType)) ∈ lw_all := lw_g (lw_at lw_m5 192 rfl) rfl
theorem q1281 : (Jvm.Cond.methodLink "StoneYear$Stacks" (169 : Nat) ({ cls := "StoneYear$Stacks", name := "carries", desc := "(IIZ)I" } : Jvm.MethodName)) ∈ lw_all := lw_g (lw_at lw_m5 193 rfl) rfl
theorem q2240 : (Jvm.Cond.castable "StoneYear$Stacks" "java/lang/Object") ∈ lw_tbl := lw_at lw_m9 192 rfl
theorem in_X4 : ∀ w ∈ wsX40, w ∈ lw_all := lw_in wsX40 [342, 344, 346, 348, 350, 352] (by decide +kernel) (by decide +kernel)
/-! StoneYear$Match -/
set_option maxRecDepth 100000
def RX5 : String := "StoneYear$Match"
def TX5 : u_T := fun k => match k with
  | 0 => ("StoneYear$Match", "least", "[I", true)
  | 1 => ("StoneYear$Match", "place", "[I", true)
  | 2 => ("StoneYear$Match", "to", "[I", true)
  | 3 => ("StoneYear$Match", "places", "I", false)
  | 4 => ("StoneYear$Match", "elsewhere", "I", false)
  | _ => ("StoneYear$Match", "this$0", "LStoneYear;", true)
def tyX5 : Nat → FieldType := fun k => match k with
  | 0 => .array .int
  | 1 => .array .int
  | 2 => .array .int
  | 3 => .int
  | 4 => .int
  | _ => .object "StoneYear"
abbrev wsX50 : List Cond := u_ws RX5 TX5 6
theorem nmX5 : ∀ a, a < 6 → ∀ b, b < 6 → a ≠ b → (TX5 a).2.1 ≠ (TX5 b).2.1 := by decide +kernel
theorem tyX5_ok : ∀ k, k < 6 → parseFieldDescriptor (TX5 k).2.2.1 = some (tyX5 k) := by decide +kernel
abbrev cX5_init : ByteArray := prog_7_method_1_code
def yX5_init : MethodName := ⟨RX5, "<init>", "(LStoneYear;)V"⟩
def dkwX5_init_1 : List UInt8 := [181, 0, 20, 42, 16, 8, 188, 10, 181, 0, 23, 177]
abbrev dktX5_init_1 : List UInt8 := dkwX5_init_1 ++ []
def dkwX5_init_0 : List UInt8 := [42, 43, 181, 0, 3, 42, 183, 0, 9, 42, 18, 15, 188, 10, 181, 0, 16, 42, 16, 15, 188, 10]
abbrev dktX5_init_0 : List UInt8 := dkwX5_init_0 ++ dktX5_init_1
theorem dksX5_init_0 : cX5_init.data.toList.drop 0 = dktX5_init_0 := by decide +kernel
theorem dksX5_init_1 : cX5_init.data.toList.drop 22 = dktX5_init_1 := dk_seg dksX5_init_0 22 rfl rfl
theorem dX5_init_0 : decode cX5_init 0 = .ok (.aload_n 0, 1) := dk_42 (dk_at dksX5_init_0 0 rfl rfl)
theorem dX5_init_1 : decode cX5_init 1 = .ok (.aload_n 1, 1) := dk_43 (dk_at dksX5_init_0 1 rfl rfl)
theorem dX5_init_2 : decode cX5_init 2 = .ok (.putfield 3, 3) := dk_181 0 3 (dk_at dksX5_init_0 2 rfl rfl)
theorem dX5_init_5 : decode cX5_init 5 = .ok (.aload_n 0, 1) := dk_42 (dk_at dksX5_init_0 5 rfl rfl)
theorem dX5_init_6 : decode cX5_init 6 = .ok (.invokespecial 9, 3) := dk_183 0 9 (dk_at dksX5_init_0 6 rfl rfl)
theorem dX5_init_9 : decode cX5_init 9 = .ok (.aload_n 0, 1) := dk_42 (dk_at dksX5_init_0 9 rfl rfl)
theorem dX5_init_10 : decode cX5_init 10 = .ok (.ldc 15, 2) := dk_18 15 (dk_at dksX5_init_0 10 rfl rfl)
theorem dX5_init_12 : decode cX5_init 12 = .ok (.newarray .int, 2) := dk_188_10 (dk_at dksX5_init_0 12 rfl rfl)
theorem dX5_init_14 : decode cX5_init 14 = .ok (.putfield 16, 3) := dk_181 0 16 (dk_at dksX5_init_0 14 rfl rfl)
theorem dX5_init_17 : decode cX5_init 17 = .ok (.aload_n 0, 1) := dk_42 (dk_at dksX5_init_0 17 rfl rfl)
theorem dX5_init_18 : decode cX5_init 18 = .ok (.bipush 15, 2) := dk_16 15 (dk_at dksX5_init_0 18 rfl rfl)
theorem dX5_init_20 : decode cX5_init 20 = .ok (.newarray .int, 2) := dk_188_10 (dk_at dksX5_init_0 20 rfl rfl)
theorem dX5_init_22 : decode cX5_init 22 = .ok (.putfield 20, 3) := dk_181 0 20 (dk_at dksX5_init_1 0 rfl rfl)
theorem dX5_init_25 : decode cX5_init 25 = .ok (.aload_n 0, 1) := dk_42 (dk_at dksX5_init_1 3 rfl rfl)
theorem dX5_init_26 : decode cX5_init 26 = .ok (.bipush 8, 2) := dk_16 8 (dk_at dksX5_init_1 4 rfl rfl)
theorem dX5_init_28 : decode cX5_init 28 = .ok (.newarray .int, 2) := dk_188_10 (dk_at dksX5_init_1 6 rfl rfl)
theorem dX5_init_30 : decode cX5_init 30 = .ok (.putfield 23, 3) := dk_181 0 23 (dk_at dksX5_init_1 8 rfl rfl)
theorem dX5_init_33 : decode cX5_init 33 = .ok (.return_, 1) := dk_177 (dk_at dksX5_init_1 11 rfl rfl)
abbrev cX5_finds : ByteArray := prog_7_method_3_code
def yX5_finds : MethodName := ⟨RX5, "finds", "()LStoneYear$Match;"⟩
def dkwX5_finds_11 : List UInt8 := [167, 255, 156, 42, 176]
abbrev dktX5_finds_11 : List UInt8 := dkwX5_finds_11 ++ []
def dkwX5_finds_10 : List UInt8 := [180, 0, 69, 29, 184, 0, 73, 159, 0, 7, 4, 167, 0, 4, 3, 96, 181, 0, 30, 132, 3, 1]
abbrev dktX5_finds_10 : List UInt8 := dkwX5_finds_10 ++ dktX5_finds_11
def dkwX5_finds_9 : List UInt8 := [180, 0, 30, 21, 4, 2, 159, 0, 31, 42, 180, 0, 20, 21, 4, 46, 42, 180, 0, 3, 180, 0, 33]
abbrev dktX5_finds_9 : List UInt8 := dkwX5_finds_9 ++ dktX5_finds_10
def dkwX5_finds_8 : List UInt8 := [21, 4, 46, 79, 28, 21, 4, 2, 160, 0, 7, 3, 167, 0, 7, 4, 21, 4, 120, 128, 61, 42, 89]
abbrev dktX5_finds_8 : List UInt8 := dkwX5_finds_8 ++ dktX5_finds_9
def dkwX5_finds_7 : List UInt8 := [182, 0, 66, 54, 4, 42, 180, 0, 23, 29, 21, 4, 2, 160, 0, 7, 2, 167, 0, 10, 42, 180, 0, 20]
abbrev dktX5_finds_7 : List UInt8 := dkwX5_finds_7 ++ dktX5_finds_8
def dkwX5_finds_6 : List UInt8 := [132, 3, 1, 167, 255, 237, 132, 2, 255, 167, 255, 225, 3, 61, 3, 62, 29, 27, 162, 0, 101, 42, 29, 28]
abbrev dktX5_finds_6 : List UInt8 := dkwX5_finds_6 ++ dktX5_finds_7
def dkwX5_finds_5 : List UInt8 := [100, 61, 28, 155, 0, 33, 3, 62, 29, 4, 42, 180, 0, 26, 120, 162, 0, 15, 42, 28, 29, 182, 0, 62]
abbrev dktX5_finds_5 : List UInt8 := dkwX5_finds_5 ++ dktX5_finds_6
def dkwX5_finds_4 : List UInt8 := [120, 162, 0, 21, 42, 180, 0, 16, 42, 27, 28, 182, 0, 59, 3, 79, 132, 2, 1, 167, 255, 231, 27, 4]
abbrev dktX5_finds_4 : List UInt8 := dkwX5_finds_4 ++ dktX5_finds_5
def dkwX5_finds_3 : List UInt8 := [180, 0, 3, 180, 0, 33, 180, 0, 37, 180, 0, 49, 182, 0, 53, 60, 3, 61, 28, 4, 42, 180, 0, 26]
abbrev dktX5_finds_3 : List UInt8 := dkwX5_finds_3 ++ dktX5_finds_4
def dkwX5_finds_2 : List UInt8 := [180, 0, 26, 27, 79, 42, 89, 180, 0, 26, 4, 96, 181, 0, 26, 132, 1, 1, 167, 255, 205, 42]
abbrev dktX5_finds_2 : List UInt8 := dkwX5_finds_2 ++ dktX5_finds_3
def dkwX5_finds_1 : List UInt8 := [180, 0, 33, 180, 0, 37, 27, 2, 182, 0, 43, 2, 160, 0, 6, 167, 0, 23, 42, 180, 0, 20, 42]
abbrev dktX5_finds_1 : List UInt8 := dkwX5_finds_1 ++ dktX5_finds_2
def dkwX5_finds_0 : List UInt8 := [42, 3, 181, 0, 26, 42, 3, 181, 0, 30, 3, 60, 27, 16, 15, 162, 0, 51, 42, 180, 0, 3]
abbrev dktX5_finds_0 : List UInt8 := dkwX5_finds_0 ++ dktX5_finds_1
theorem dksX5_finds_0 : cX5_finds.data.toList.drop 0 = dktX5_finds_0 := by decide +kernel
theorem dksX5_finds_1 : cX5_finds.data.toList.drop 22 = dktX5_finds_1 := dk_seg dksX5_finds_0 22 rfl rfl
theorem dksX5_finds_2 : cX5_finds.data.toList.drop 45 = dktX5_finds_2 := dk_seg dksX5_finds_1 23 rfl rfl
theorem dksX5_finds_3 : cX5_finds.data.toList.drop 67 = dktX5_finds_3 := dk_seg dksX5_finds_2 22 rfl rfl
theorem dksX5_finds_4 : cX5_finds.data.toList.drop 91 = dktX5_finds_4 := dk_seg dksX5_finds_3 24 rfl rfl
theorem dksX5_finds_5 : cX5_finds.data.toList.drop 115 = dktX5_finds_5 := dk_seg dksX5_finds_4 24 rfl rfl
theorem dksX5_finds_6 : cX5_finds.data.toList.drop 139 = dktX5_finds_6 := dk_seg dksX5_finds_5 24 rfl rfl
theorem dksX5_finds_7 : cX5_finds.data.toList.drop 163 = dktX5_finds_7 := dk_seg dksX5_finds_6 24 rfl rfl
theorem dksX5_finds_8 : cX5_finds.data.toList.drop 187 = dktX5_finds_8 := dk_seg dksX5_finds_7 24 rfl rfl
theorem dksX5_finds_9 : cX5_finds.data.toList.drop 210 = dktX5_finds_9 := dk_seg dksX5_finds_8 23 rfl rfl
theorem dksX5_finds_10 : cX5_finds.data.toList.drop 233 = dktX5_finds_10 := dk_seg dksX5_finds_9 23 rfl rfl
theorem dksX5_finds_11 : cX5_finds.data.toList.drop 255 = dktX5_finds_11 := dk_seg dksX5_finds_10 22 rfl rfl
theorem dX5_finds_0 : decode cX5_finds 0 = .ok (.aload_n 0, 1) := dk_42 (dk_at dksX5_finds_0 0 rfl rfl)
theorem dX5_finds_1 : decode cX5_finds 1 = .ok (.iconst 0, 1) := dk_3 (dk_at dksX5_finds_0 1 rfl rfl)
theorem dX5_finds_2 : decode cX5_finds 2 = .ok (.putfield 26, 3) := dk_181 0 26 (dk_at dksX5_finds_0 2 rfl rfl)
theorem dX5_finds_5 : decode cX5_finds 5 = .ok (.aload_n 0, 1) := dk_42 (dk_at dksX5_finds_0 5 rfl rfl)
theorem dX5_finds_6 : decode cX5_finds 6 = .ok (.iconst 0, 1) := dk_3 (dk_at dksX5_finds_0 6 rfl rfl)
theorem dX5_finds_7 : decode cX5_finds 7 = .ok (.putfield 30, 3) := dk_181 0 30 (dk_at dksX5_finds_0 7 rfl rfl)
theorem dX5_finds_10 : decode cX5_finds 10 = .ok (.iconst 0, 1) := dk_3 (dk_at dksX5_finds_0 10 rfl rfl)
theorem dX5_finds_11 : decode cX5_finds 11 = .ok (.istore_n 1, 1) := dk_60 (dk_at dksX5_finds_0 11 rfl rfl)
theorem dX5_finds_12 : decode cX5_finds 12 = .ok (.iload_n 1, 1) := dk_27 (dk_at dksX5_finds_0 12 rfl rfl)
theorem dX5_finds_13 : decode cX5_finds 13 = .ok (.bipush 15, 2) := dk_16 15 (dk_at dksX5_finds_0 13 rfl rfl)
theorem dX5_finds_15 : decode cX5_finds 15 = .ok (.if_icmp .ge 51, 3) := dk_162 0 51 (dk_at dksX5_finds_0 15 rfl rfl)
theorem dX5_finds_18 : decode cX5_finds 18 = .ok (.aload_n 0, 1) := dk_42 (dk_at dksX5_finds_0 18 rfl rfl)
theorem dX5_finds_19 : decode cX5_finds 19 = .ok (.getfield 3, 3) := dk_180 0 3 (dk_at dksX5_finds_0 19 rfl rfl)
theorem dX5_finds_22 : decode cX5_finds 22 = .ok (.getfield 33, 3) := dk_180 0 33 (dk_at dksX5_finds_1 0 rfl rfl)
theorem dX5_finds_25 : decode cX5_finds 25 = .ok (.getfield 37, 3) := dk_180 0 37 (dk_at dksX5_finds_1 3 rfl rfl)
theorem dX5_finds_28 : decode cX5_finds 28 = .ok (.iload_n 1, 1) := dk_27 (dk_at dksX5_finds_1 6 rfl rfl)
theorem dX5_finds_29 : decode cX5_finds 29 = .ok (.iconst (-1), 1) := dk_2 (dk_at dksX5_finds_1 7 rfl rfl)
theorem dX5_finds_30 : decode cX5_finds 30 = .ok (.invokevirtual 43, 3) := dk_182 0 43 (dk_at dksX5_finds_1 8 rfl rfl)
theorem dX5_finds_33 : decode cX5_finds 33 = .ok (.iconst (-1), 1) := dk_2 (dk_at dksX5_finds_1 11 rfl rfl)
theorem dX5_finds_34 : decode cX5_finds 34 = .ok (.if_icmp .ne 6, 3) := dk_160 0 6 (dk_at dksX5_finds_1 12 rfl rfl)
theorem dX5_finds_37 : decode cX5_finds 37 = .ok (.goto 23, 3) := dk_167 0 23 (dk_at dksX5_finds_1 15 rfl rfl)
theorem dX5_finds_40 : decode cX5_finds 40 = .ok (.aload_n 0, 1) := dk_42 (dk_at dksX5_finds_1 18 rfl rfl)
theorem dX5_finds_41 : decode cX5_finds 41 = .ok (.getfield 20, 3) := dk_180 0 20 (dk_at dksX5_finds_1 19 rfl rfl)
theorem dX5_finds_44 : decode cX5_finds 44 = .ok (.aload_n 0, 1) := dk_42 (dk_at dksX5_finds_1 22 rfl rfl)
theorem dX5_finds_45 : decode cX5_finds 45 = .ok (.getfield 26, 3) := dk_180 0 26 (dk_at dksX5_finds_2 0 rfl rfl)
theorem dX5_finds_48 : decode cX5_finds 48 = .ok (.iload_n 1, 1) := dk_27 (dk_at dksX5_finds_2 3 rfl rfl)
theorem dX5_finds_49 : decode cX5_finds 49 = .ok (.iastore, 1) := dk_79 (dk_at dksX5_finds_2 4 rfl rfl)
theorem dX5_finds_50 : decode cX5_finds 50 = .ok (.aload_n 0, 1) := dk_42 (dk_at dksX5_finds_2 5 rfl rfl)
theorem dX5_finds_51 : decode cX5_finds 51 = .ok (.dup, 1) := dk_89 (dk_at dksX5_finds_2 6 rfl rfl)
theorem dX5_finds_52 : decode cX5_finds 52 = .ok (.getfield 26, 3) := dk_180 0 26 (dk_at dksX5_finds_2 7 rfl rfl)
theorem dX5_finds_55 : decode cX5_finds 55 = .ok (.iconst 1, 1) := dk_4 (dk_at dksX5_finds_2 10 rfl rfl)
theorem dX5_finds_56 : decode cX5_finds 56 = .ok (.iadd, 1) := dk_96 (dk_at dksX5_finds_2 11 rfl rfl)
theorem dX5_finds_57 : decode cX5_finds 57 = .ok (.putfield 26, 3) := dk_181 0 26 (dk_at dksX5_finds_2 12 rfl rfl)
theorem dX5_finds_60 : decode cX5_finds 60 = .ok (.iinc 1 1, 3) := dk_132 1 1 (dk_at dksX5_finds_2 15 rfl rfl)
theorem dX5_finds_63 : decode cX5_finds 63 = .ok (.goto (-51), 3) := dk_167 255 205 (dk_at dksX5_finds_2 18 rfl rfl)
theorem dX5_finds_66 : decode cX5_finds 66 = .ok (.aload_n 0, 1) := dk_42 (dk_at dksX5_finds_2 21 rfl rfl)
theorem dX5_finds_67 : decode cX5_finds 67 = .ok (.getfield 3, 3) := dk_180 0 3 (dk_at dksX5_finds_3 0 rfl rfl)
theorem dX5_finds_70 : decode cX5_finds 70 = .ok (.getfield 33, 3) := dk_180 0 33 (dk_at dksX5_finds_3 3 rfl rfl)
theorem dX5_finds_73 : decode cX5_finds 73 = .ok (.getfield 37, 3) := dk_180 0 37 (dk_at dksX5_finds_3 6 rfl rfl)
theorem dX5_finds_76 : decode cX5_finds 76 = .ok (.getfield 49, 3) := dk_180 0 49 (dk_at dksX5_finds_3 9 rfl rfl)
theorem dX5_finds_79 : decode cX5_finds 79 = .ok (.invokevirtual 53, 3) := dk_182 0 53 (dk_at dksX5_finds_3 12 rfl rfl)
theorem dX5_finds_82 : decode cX5_finds 82 = .ok (.istore_n 1, 1) := dk_60 (dk_at dksX5_finds_3 15 rfl rfl)
theorem dX5_finds_83 : decode cX5_finds 83 = .ok (.iconst 0, 1) := dk_3 (dk_at dksX5_finds_3 16 rfl rfl)
theorem dX5_finds_84 : decode cX5_finds 84 = .ok (.istore_n 2, 1) := dk_61 (dk_at dksX5_finds_3 17 rfl rfl)
theorem dX5_finds_85 : decode cX5_finds 85 = .ok (.iload_n 2, 1) := dk_28 (dk_at dksX5_finds_3 18 rfl rfl)
theorem dX5_finds_86 : decode cX5_finds 86 = .ok (.iconst 1, 1) := dk_4 (dk_at dksX5_finds_3 19 rfl rfl)
theorem dX5_finds_87 : decode cX5_finds 87 = .ok (.aload_n 0, 1) := dk_42 (dk_at dksX5_finds_3 20 rfl rfl)
theorem dX5_finds_88 : decode cX5_finds 88 = .ok (.getfield 26, 3) := dk_180 0 26 (dk_at dksX5_finds_3 21 rfl rfl)
theorem dX5_finds_91 : decode cX5_finds 91 = .ok (.ishl, 1) := dk_120 (dk_at dksX5_finds_4 0 rfl rfl)
theorem dX5_finds_92 : decode cX5_finds 92 = .ok (.if_icmp .ge 21, 3) := dk_162 0 21 (dk_at dksX5_finds_4 1 rfl rfl)
theorem dX5_finds_95 : decode cX5_finds 95 = .ok (.aload_n 0, 1) := dk_42 (dk_at dksX5_finds_4 4 rfl rfl)
theorem dX5_finds_96 : decode cX5_finds 96 = .ok (.getfield 16, 3) := dk_180 0 16 (dk_at dksX5_finds_4 5 rfl rfl)
theorem dX5_finds_99 : decode cX5_finds 99 = .ok (.aload_n 0, 1) := dk_42 (dk_at dksX5_finds_4 8 rfl rfl)
theorem dX5_finds_100 : decode cX5_finds 100 = .ok (.iload_n 1, 1) := dk_27 (dk_at dksX5_finds_4 9 rfl rfl)
theorem dX5_finds_101 : decode cX5_finds 101 = .ok (.iload_n 2, 1) := dk_28 (dk_at dksX5_finds_4 10 rfl rfl)
theorem dX5_finds_102 : decode cX5_finds 102 = .ok (.invokevirtual 59, 3) := dk_182 0 59 (dk_at dksX5_finds_4 11 rfl rfl)
theorem dX5_finds_105 : decode cX5_finds 105 = .ok (.iconst 0, 1) := dk_3 (dk_at dksX5_finds_4 14 rfl rfl)
theorem dX5_finds_106 : decode cX5_finds 106 = .ok (.iastore, 1) := dk_79 (dk_at dksX5_finds_4 15 rfl rfl)
theorem dX5_finds_107 : decode cX5_finds 107 = .ok (.iinc 2 1, 3) := dk_132 2 1 (dk_at dksX5_finds_4 16 rfl rfl)
theorem dX5_finds_110 : decode cX5_finds 110 = .ok (.goto (-25), 3) := dk_167 255 231 (dk_at dksX5_finds_4 19 rfl rfl)
theorem dX5_finds_113 : decode cX5_finds 113 = .ok (.iload_n 1, 1) := dk_27 (dk_at dksX5_finds_4 22 rfl rfl)
theorem dX5_finds_114 : decode cX5_finds 114 = .ok (.iconst 1, 1) := dk_4 (dk_at dksX5_finds_4 23 rfl rfl)
theorem dX5_finds_115 : decode cX5_finds 115 = .ok (.isub, 1) := dk_100 (dk_at dksX5_finds_5 0 rfl rfl)
theorem dX5_finds_116 : decode cX5_finds 116 = .ok (.istore_n 2, 1) := dk_61 (dk_at dksX5_finds_5 1 rfl rfl)
theorem dX5_finds_117 : decode cX5_finds 117 = .ok (.iload_n 2, 1) := dk_28 (dk_at dksX5_finds_5 2 rfl rfl)
theorem dX5_finds_118 : decode cX5_finds 118 = .ok (.ifCond .lt 33, 3) := dk_155 0 33 (dk_at dksX5_finds_5 3 rfl rfl)
theorem dX5_finds_121 : decode cX5_finds 121 = .ok (.iconst 0, 1) := dk_3 (dk_at dksX5_finds_5 6 rfl rfl)
theorem dX5_finds_122 : decode cX5_finds 122 = .ok (.istore_n 3, 1) := dk_62 (dk_at dksX5_finds_5 7 rfl rfl)
theorem dX5_finds_123 : decode cX5_finds 123 = .ok (.iload_n 3, 1) := dk_29 (dk_at dksX5_finds_5 8 rfl rfl)
theorem dX5_finds_124 : decode cX5_finds 124 = .ok (.iconst 1, 1) := dk_4 (dk_at dksX5_finds_5 9 rfl rfl)
theorem dX5_finds_125 : decode cX5_finds 125 = .ok (.aload_n 0, 1) := dk_42 (dk_at dksX5_finds_5 10 rfl rfl)
theorem dX5_finds_126 : decode cX5_finds 126 = .ok (.getfield 26, 3) := dk_180 0 26 (dk_at dksX5_finds_5 11 rfl rfl)
theorem dX5_finds_129 : decode cX5_finds 129 = .ok (.ishl, 1) := dk_120 (dk_at dksX5_finds_5 14 rfl rfl)
theorem dX5_finds_130 : decode cX5_finds 130 = .ok (.if_icmp .ge 15, 3) := dk_162 0 15 (dk_at dksX5_finds_5 15 rfl rfl)
theorem dX5_finds_133 : decode cX5_finds 133 = .ok (.aload_n 0, 1) := dk_42 (dk_at dksX5_finds_5 18 rfl rfl)
theorem dX5_finds_134 : decode cX5_finds 134 = .ok (.iload_n 2, 1) := dk_28 (dk_at dksX5_finds_5 19 rfl rfl)
theorem dX5_finds_135 : decode cX5_finds 135 = .ok (.iload_n 3, 1) := dk_29 (dk_at dksX5_finds_5 20 rfl rfl)
theorem dX5_finds_136 : decode cX5_finds 136 = .ok (.invokevirtual 62, 3) := dk_182 0 62 (dk_at dksX5_finds_5 21 rfl rfl)
theorem dX5_finds_139 : decode cX5_finds 139 = .ok (.iinc 3 1, 3) := dk_132 3 1 (dk_at dksX5_finds_6 0 rfl rfl)
theorem dX5_finds_142 : decode cX5_finds 142 = .ok (.goto (-19), 3) := dk_167 255 237 (dk_at dksX5_finds_6 3 rfl rfl)
theorem dX5_finds_145 : decode cX5_finds 145 = .ok (.iinc 2 (-1), 3) := dk_132 2 255 (dk_at dksX5_finds_6 6 rfl rfl)
theorem dX5_finds_148 : decode cX5_finds 148 = .ok (.goto (-31), 3) := dk_167 255 225 (dk_at dksX5_finds_6 9 rfl rfl)
theorem dX5_finds_151 : decode cX5_finds 151 = .ok (.iconst 0, 1) := dk_3 (dk_at dksX5_finds_6 12 rfl rfl)
theorem dX5_finds_152 : decode cX5_finds 152 = .ok (.istore_n 2, 1) := dk_61 (dk_at dksX5_finds_6 13 rfl rfl)
theorem dX5_finds_153 : decode cX5_finds 153 = .ok (.iconst 0, 1) := dk_3 (dk_at dksX5_finds_6 14 rfl rfl)
theorem dX5_finds_154 : decode cX5_finds 154 = .ok (.istore_n 3, 1) := dk_62 (dk_at dksX5_finds_6 15 rfl rfl)
theorem dX5_finds_155 : decode cX5_finds 155 = .ok (.iload_n 3, 1) := dk_29 (dk_at dksX5_finds_6 16 rfl rfl)
theorem dX5_finds_156 : decode cX5_finds 156 = .ok (.iload_n 1, 1) := dk_27 (dk_at dksX5_finds_6 17 rfl rfl)
theorem dX5_finds_157 : decode cX5_finds 157 = .ok (.if_icmp .ge 101, 3) := dk_162 0 101 (dk_at dksX5_finds_6 18 rfl rfl)
theorem dX5_finds_160 : decode cX5_finds 160 = .ok (.aload_n 0, 1) := dk_42 (dk_at dksX5_finds_6 21 rfl rfl)
theorem dX5_finds_161 : decode cX5_finds 161 = .ok (.iload_n 3, 1) := dk_29 (dk_at dksX5_finds_6 22 rfl rfl)
theorem dX5_finds_162 : decode cX5_finds 162 = .ok (.iload_n 2, 1) := dk_28 (dk_at dksX5_finds_6 23 rfl rfl)
theorem dX5_finds_163 : decode cX5_finds 163 = .ok (.invokevirtual 66, 3) := dk_182 0 66 (dk_at dksX5_finds_7 0 rfl rfl)
theorem dX5_finds_166 : decode cX5_finds 166 = .ok (.istore 4, 2) := dk_54 4 (dk_at dksX5_finds_7 3 rfl rfl)
theorem dX5_finds_168 : decode cX5_finds 168 = .ok (.aload_n 0, 1) := dk_42 (dk_at dksX5_finds_7 5 rfl rfl)
theorem dX5_finds_169 : decode cX5_finds 169 = .ok (.getfield 23, 3) := dk_180 0 23 (dk_at dksX5_finds_7 6 rfl rfl)
theorem dX5_finds_172 : decode cX5_finds 172 = .ok (.iload_n 3, 1) := dk_29 (dk_at dksX5_finds_7 9 rfl rfl)
theorem dX5_finds_173 : decode cX5_finds 173 = .ok (.iload 4, 2) := dk_21 4 (dk_at dksX5_finds_7 10 rfl rfl)
theorem dX5_finds_175 : decode cX5_finds 175 = .ok (.iconst (-1), 1) := dk_2 (dk_at dksX5_finds_7 12 rfl rfl)
theorem dX5_finds_176 : decode cX5_finds 176 = .ok (.if_icmp .ne 7, 3) := dk_160 0 7 (dk_at dksX5_finds_7 13 rfl rfl)
theorem dX5_finds_179 : decode cX5_finds 179 = .ok (.iconst (-1), 1) := dk_2 (dk_at dksX5_finds_7 16 rfl rfl)
theorem dX5_finds_180 : decode cX5_finds 180 = .ok (.goto 10, 3) := dk_167 0 10 (dk_at dksX5_finds_7 17 rfl rfl)
theorem dX5_finds_183 : decode cX5_finds 183 = .ok (.aload_n 0, 1) := dk_42 (dk_at dksX5_finds_7 20 rfl rfl)
theorem dX5_finds_184 : decode cX5_finds 184 = .ok (.getfield 20, 3) := dk_180 0 20 (dk_at dksX5_finds_7 21 rfl rfl)
theorem dX5_finds_187 : decode cX5_finds 187 = .ok (.iload 4, 2) := dk_21 4 (dk_at dksX5_finds_8 0 rfl rfl)
theorem dX5_finds_189 : decode cX5_finds 189 = .ok (.iaload, 1) := dk_46 (dk_at dksX5_finds_8 2 rfl rfl)
theorem dX5_finds_190 : decode cX5_finds 190 = .ok (.iastore, 1) := dk_79 (dk_at dksX5_finds_8 3 rfl rfl)
theorem dX5_finds_191 : decode cX5_finds 191 = .ok (.iload_n 2, 1) := dk_28 (dk_at dksX5_finds_8 4 rfl rfl)
theorem dX5_finds_192 : decode cX5_finds 192 = .ok (.iload 4, 2) := dk_21 4 (dk_at dksX5_finds_8 5 rfl rfl)
theorem dX5_finds_194 : decode cX5_finds 194 = .ok (.iconst (-1), 1) := dk_2 (dk_at dksX5_finds_8 7 rfl rfl)
theorem dX5_finds_195 : decode cX5_finds 195 = .ok (.if_icmp .ne 7, 3) := dk_160 0 7 (dk_at dksX5_finds_8 8 rfl rfl)
theorem dX5_finds_198 : decode cX5_finds 198 = .ok (.iconst 0, 1) := dk_3 (dk_at dksX5_finds_8 11 rfl rfl)
theorem dX5_finds_199 : decode cX5_finds 199 = .ok (.goto 7, 3) := dk_167 0 7 (dk_at dksX5_finds_8 12 rfl rfl)
theorem dX5_finds_202 : decode cX5_finds 202 = .ok (.iconst 1, 1) := dk_4 (dk_at dksX5_finds_8 15 rfl rfl)
theorem dX5_finds_203 : decode cX5_finds 203 = .ok (.iload 4, 2) := dk_21 4 (dk_at dksX5_finds_8 16 rfl rfl)
theorem dX5_finds_205 : decode cX5_finds 205 = .ok (.ishl, 1) := dk_120 (dk_at dksX5_finds_8 18 rfl rfl)
theorem dX5_finds_206 : decode cX5_finds 206 = .ok (.ior, 1) := dk_128 (dk_at dksX5_finds_8 19 rfl rfl)
theorem dX5_finds_207 : decode cX5_finds 207 = .ok (.istore_n 2, 1) := dk_61 (dk_at dksX5_finds_8 20 rfl rfl)
theorem dX5_finds_208 : decode cX5_finds 208 = .ok (.aload_n 0, 1) := dk_42 (dk_at dksX5_finds_8 21 rfl rfl)
theorem dX5_finds_209 : decode cX5_finds 209 = .ok (.dup, 1) := dk_89 (dk_at dksX5_finds_8 22 rfl rfl)
theorem dX5_finds_210 : decode cX5_finds 210 = .ok (.getfield 30, 3) := dk_180 0 30 (dk_at dksX5_finds_9 0 rfl rfl)
theorem dX5_finds_213 : decode cX5_finds 213 = .ok (.iload 4, 2) := dk_21 4 (dk_at dksX5_finds_9 3 rfl rfl)
theorem dX5_finds_215 : decode cX5_finds 215 = .ok (.iconst (-1), 1) := dk_2 (dk_at dksX5_finds_9 5 rfl rfl)
theorem dX5_finds_216 : decode cX5_finds 216 = .ok (.if_icmp .eq 31, 3) := dk_159 0 31 (dk_at dksX5_finds_9 6 rfl rfl)
theorem dX5_finds_219 : decode cX5_finds 219 = .ok (.aload_n 0, 1) := dk_42 (dk_at dksX5_finds_9 9 rfl rfl)
theorem dX5_finds_220 : decode cX5_finds 220 = .ok (.getfield 20, 3) := dk_180 0 20 (dk_at dksX5_finds_9 10 rfl rfl)
theorem dX5_finds_223 : decode cX5_finds 223 = .ok (.iload 4, 2) := dk_21 4 (dk_at dksX5_finds_9 13 rfl rfl)
theorem dX5_finds_225 : decode cX5_finds 225 = .ok (.iaload, 1) := dk_46 (dk_at dksX5_finds_9 15 rfl rfl)
theorem dX5_finds_226 : decode cX5_finds 226 = .ok (.aload_n 0, 1) := dk_42 (dk_at dksX5_finds_9 16 rfl rfl)
theorem dX5_finds_227 : decode cX5_finds 227 = .ok (.getfield 3, 3) := dk_180 0 3 (dk_at dksX5_finds_9 17 rfl rfl)
theorem dX5_finds_230 : decode cX5_finds 230 = .ok (.getfield 33, 3) := dk_180 0 33 (dk_at dksX5_finds_9 20 rfl rfl)
theorem dX5_finds_233 : decode cX5_finds 233 = .ok (.getfield 69, 3) := dk_180 0 69 (dk_at dksX5_finds_10 0 rfl rfl)
theorem dX5_finds_236 : decode cX5_finds 236 = .ok (.iload_n 3, 1) := dk_29 (dk_at dksX5_finds_10 3 rfl rfl)
theorem dX5_finds_237 : decode cX5_finds 237 = .ok (.invokestatic 73, 3) := dk_184 0 73 (dk_at dksX5_finds_10 4 rfl rfl)
theorem dX5_finds_240 : decode cX5_finds 240 = .ok (.if_icmp .eq 7, 3) := dk_159 0 7 (dk_at dksX5_finds_10 7 rfl rfl)
theorem dX5_finds_243 : decode cX5_finds 243 = .ok (.iconst 1, 1) := dk_4 (dk_at dksX5_finds_10 10 rfl rfl)
theorem dX5_finds_244 : decode cX5_finds 244 = .ok (.goto 4, 3) := dk_167 0 4 (dk_at dksX5_finds_10 11 rfl rfl)
theorem dX5_finds_247 : decode cX5_finds 247 = .ok (.iconst 0, 1) := dk_3 (dk_at dksX5_finds_10 14 rfl rfl)
theorem dX5_finds_248 : decode cX5_finds 248 = .ok (.iadd, 1) := dk_96 (dk_at dksX5_finds_10 15 rfl rfl)
theorem dX5_finds_249 : decode cX5_finds 249 = .ok (.putfield 30, 3) := dk_181 0 30 (dk_at dksX5_finds_10 16 rfl rfl)
theorem dX5_finds_252 : decode cX5_finds 252 = .ok (.iinc 3 1, 3) := dk_132 3 1 (dk_at dksX5_finds_10 19 rfl rfl)
theorem dX5_finds_255 : decode cX5_finds 255 = .ok (.goto (-100), 3) := dk_167 255 156 (dk_at dksX5_finds_11 0 rfl rfl)
theorem dX5_finds_258 : decode cX5_finds 258 = .ok (.aload_n 0, 1) := dk_42 (dk_at dksX5_finds_11 3 rfl rfl)
theorem dX5_finds_259 : decode cX5_finds 259 = .ok (.areturn, 1) := dk_176 (dk_at dksX5_finds_11 4 rfl rfl)
abbrev cX5_at : ByteArray := prog_7_method_2_code
def yX5_at : MethodName := ⟨RX5, "at", "(II)I"⟩
def dkwX5_at_0 : List UInt8 := [27, 16, 15, 120, 28, 128, 172]
abbrev dktX5_at_0 : List UInt8 := dkwX5_at_0 ++ []
theorem dksX5_at_0 : cX5_at.data.toList.drop 0 = dktX5_at_0 := by decide +kernel
theorem dX5_at_0 : decode cX5_at 0 = .ok (.iload_n 1, 1) := dk_27 (dk_at dksX5_at_0 0 rfl rfl)
theorem dX5_at_1 : decode cX5_at 1 = .ok (.bipush 15, 2) := dk_16 15 (dk_at dksX5_at_0 1 rfl rfl)
theorem dX5_at_3 : decode cX5_at 3 = .ok (.ishl, 1) := dk_120 (dk_at dksX5_at_0 3 rfl rfl)
theorem dX5_at_4 : decode cX5_at 4 = .ok (.iload_n 2, 1) := dk_28 (dk_at dksX5_at_0 4 rfl rfl)
theorem dX5_at_5 : decode cX5_at 5 = .ok (.ior, 1) := dk_128 (dk_at dksX5_at_0 5 rfl rfl)
theorem dX5_at_6 : decode cX5_at 6 = .ok (.ireturn, 1) := dk_172 (dk_at dksX5_at_0 6 rfl rfl)
abbrev cX5_weighs : ByteArray := prog_7_method_6_code
def yX5_weighs : MethodName := ⟨RX5, "weighs", "(II)V"⟩
def dkwX5_weighs_3 : List UInt8 := [184, 0, 107, 62, 132, 4, 1, 167, 255, 202, 42, 180, 0, 16, 42, 27, 28, 182, 0, 59, 29, 79, 177]
abbrev dktX5_weighs_3 : List UInt8 := dkwX5_weighs_3 ++ []
def dkwX5_weighs_2 : List UInt8 := [182, 0, 104, 42, 180, 0, 16, 42, 27, 4, 96, 28, 4, 21, 4, 120, 128, 182, 0, 59, 46, 96]
abbrev dktX5_weighs_2 : List UInt8 := dkwX5_weighs_2 ++ dktX5_weighs_3
def dkwX5_weighs_1 : List UInt8 := [180, 0, 26, 162, 0, 51, 42, 27, 21, 4, 28, 182, 0, 100, 153, 0, 34, 29, 42, 27, 21, 4]
abbrev dktX5_weighs_1 : List UInt8 := dkwX5_weighs_1 ++ dktX5_weighs_2
def dkwX5_weighs_0 : List UInt8 := [17, 39, 16, 42, 180, 0, 16, 42, 27, 4, 96, 28, 182, 0, 59, 46, 96, 62, 3, 54, 4, 21, 4, 42]
abbrev dktX5_weighs_0 : List UInt8 := dkwX5_weighs_0 ++ dktX5_weighs_1
theorem dksX5_weighs_0 : cX5_weighs.data.toList.drop 0 = dktX5_weighs_0 := by decide +kernel
theorem dksX5_weighs_1 : cX5_weighs.data.toList.drop 24 = dktX5_weighs_1 := dk_seg dksX5_weighs_0 24 rfl rfl
theorem dksX5_weighs_2 : cX5_weighs.data.toList.drop 46 = dktX5_weighs_2 := dk_seg dksX5_weighs_1 22 rfl rfl
theorem dksX5_weighs_3 : cX5_weighs.data.toList.drop 68 = dktX5_weighs_3 := dk_seg dksX5_weighs_2 22 rfl rfl
theorem dX5_weighs_0 : decode cX5_weighs 0 = .ok (.sipush 10000, 3) := dk_17 39 16 (dk_at dksX5_weighs_0 0 rfl rfl)
theorem dX5_weighs_3 : decode cX5_weighs 3 = .ok (.aload_n 0, 1) := dk_42 (dk_at dksX5_weighs_0 3 rfl rfl)
theorem dX5_weighs_4 : decode cX5_weighs 4 = .ok (.getfield 16, 3) := dk_180 0 16 (dk_at dksX5_weighs_0 4 rfl rfl)
theorem dX5_weighs_7 : decode cX5_weighs 7 = .ok (.aload_n 0, 1) := dk_42 (dk_at dksX5_weighs_0 7 rfl rfl)
theorem dX5_weighs_8 : decode cX5_weighs 8 = .ok (.iload_n 1, 1) := dk_27 (dk_at dksX5_weighs_0 8 rfl rfl)
theorem dX5_weighs_9 : decode cX5_weighs 9 = .ok (.iconst 1, 1) := dk_4 (dk_at dksX5_weighs_0 9 rfl rfl)
theorem dX5_weighs_10 : decode cX5_weighs 10 = .ok (.iadd, 1) := dk_96 (dk_at dksX5_weighs_0 10 rfl rfl)
theorem dX5_weighs_11 : decode cX5_weighs 11 = .ok (.iload_n 2, 1) := dk_28 (dk_at dksX5_weighs_0 11 rfl rfl)
theorem dX5_weighs_12 : decode cX5_weighs 12 = .ok (.invokevirtual 59, 3) := dk_182 0 59 (dk_at dksX5_weighs_0 12 rfl rfl)
theorem dX5_weighs_15 : decode cX5_weighs 15 = .ok (.iaload, 1) := dk_46 (dk_at dksX5_weighs_0 15 rfl rfl)
theorem dX5_weighs_16 : decode cX5_weighs 16 = .ok (.iadd, 1) := dk_96 (dk_at dksX5_weighs_0 16 rfl rfl)
theorem dX5_weighs_17 : decode cX5_weighs 17 = .ok (.istore_n 3, 1) := dk_62 (dk_at dksX5_weighs_0 17 rfl rfl)
theorem dX5_weighs_18 : decode cX5_weighs 18 = .ok (.iconst 0, 1) := dk_3 (dk_at dksX5_weighs_0 18 rfl rfl)
theorem dX5_weighs_19 : decode cX5_weighs 19 = .ok (.istore 4, 2) := dk_54 4 (dk_at dksX5_weighs_0 19 rfl rfl)
theorem dX5_weighs_21 : decode cX5_weighs 21 = .ok (.iload 4, 2) := dk_21 4 (dk_at dksX5_weighs_0 21 rfl rfl)
theorem dX5_weighs_23 : decode cX5_weighs 23 = .ok (.aload_n 0, 1) := dk_42 (dk_at dksX5_weighs_0 23 rfl rfl)
theorem dX5_weighs_24 : decode cX5_weighs 24 = .ok (.getfield 26, 3) := dk_180 0 26 (dk_at dksX5_weighs_1 0 rfl rfl)
theorem dX5_weighs_27 : decode cX5_weighs 27 = .ok (.if_icmp .ge 51, 3) := dk_162 0 51 (dk_at dksX5_weighs_1 3 rfl rfl)
theorem dX5_weighs_30 : decode cX5_weighs 30 = .ok (.aload_n 0, 1) := dk_42 (dk_at dksX5_weighs_1 6 rfl rfl)
theorem dX5_weighs_31 : decode cX5_weighs 31 = .ok (.iload_n 1, 1) := dk_27 (dk_at dksX5_weighs_1 7 rfl rfl)
theorem dX5_weighs_32 : decode cX5_weighs 32 = .ok (.iload 4, 2) := dk_21 4 (dk_at dksX5_weighs_1 8 rfl rfl)
theorem dX5_weighs_34 : decode cX5_weighs 34 = .ok (.iload_n 2, 1) := dk_28 (dk_at dksX5_weighs_1 10 rfl rfl)
theorem dX5_weighs_35 : decode cX5_weighs 35 = .ok (.invokevirtual 100, 3) := dk_182 0 100 (dk_at dksX5_weighs_1 11 rfl rfl)
theorem dX5_weighs_38 : decode cX5_weighs 38 = .ok (.ifCond .eq 34, 3) := dk_153 0 34 (dk_at dksX5_weighs_1 14 rfl rfl)
theorem dX5_weighs_41 : decode cX5_weighs 41 = .ok (.iload_n 3, 1) := dk_29 (dk_at dksX5_weighs_1 17 rfl rfl)
theorem dX5_weighs_42 : decode cX5_weighs 42 = .ok (.aload_n 0, 1) := dk_42 (dk_at dksX5_weighs_1 18 rfl rfl)
theorem dX5_weighs_43 : decode cX5_weighs 43 = .ok (.iload_n 1, 1) := dk_27 (dk_at dksX5_weighs_1 19 rfl rfl)
theorem dX5_weighs_44 : decode cX5_weighs 44 = .ok (.iload 4, 2) := dk_21 4 (dk_at dksX5_weighs_1 20 rfl rfl)
theorem dX5_weighs_46 : decode cX5_weighs 46 = .ok (.invokevirtual 104, 3) := dk_182 0 104 (dk_at dksX5_weighs_2 0 rfl rfl)
theorem dX5_weighs_49 : decode cX5_weighs 49 = .ok (.aload_n 0, 1) := dk_42 (dk_at dksX5_weighs_2 3 rfl rfl)
theorem dX5_weighs_50 : decode cX5_weighs 50 = .ok (.getfield 16, 3) := dk_180 0 16 (dk_at dksX5_weighs_2 4 rfl rfl)
theorem dX5_weighs_53 : decode cX5_weighs 53 = .ok (.aload_n 0, 1) := dk_42 (dk_at dksX5_weighs_2 7 rfl rfl)
theorem dX5_weighs_54 : decode cX5_weighs 54 = .ok (.iload_n 1, 1) := dk_27 (dk_at dksX5_weighs_2 8 rfl rfl)
theorem dX5_weighs_55 : decode cX5_weighs 55 = .ok (.iconst 1, 1) := dk_4 (dk_at dksX5_weighs_2 9 rfl rfl)
theorem dX5_weighs_56 : decode cX5_weighs 56 = .ok (.iadd, 1) := dk_96 (dk_at dksX5_weighs_2 10 rfl rfl)
theorem dX5_weighs_57 : decode cX5_weighs 57 = .ok (.iload_n 2, 1) := dk_28 (dk_at dksX5_weighs_2 11 rfl rfl)
theorem dX5_weighs_58 : decode cX5_weighs 58 = .ok (.iconst 1, 1) := dk_4 (dk_at dksX5_weighs_2 12 rfl rfl)
theorem dX5_weighs_59 : decode cX5_weighs 59 = .ok (.iload 4, 2) := dk_21 4 (dk_at dksX5_weighs_2 13 rfl rfl)
theorem dX5_weighs_61 : decode cX5_weighs 61 = .ok (.ishl, 1) := dk_120 (dk_at dksX5_weighs_2 15 rfl rfl)
theorem dX5_weighs_62 : decode cX5_weighs 62 = .ok (.ior, 1) := dk_128 (dk_at dksX5_weighs_2 16 rfl rfl)
theorem dX5_weighs_63 : decode cX5_weighs 63 = .ok (.invokevirtual 59, 3) := dk_182 0 59 (dk_at dksX5_weighs_2 17 rfl rfl)
theorem dX5_weighs_66 : decode cX5_weighs 66 = .ok (.iaload, 1) := dk_46 (dk_at dksX5_weighs_2 20 rfl rfl)
theorem dX5_weighs_67 : decode cX5_weighs 67 = .ok (.iadd, 1) := dk_96 (dk_at dksX5_weighs_2 21 rfl rfl)
theorem dX5_weighs_68 : decode cX5_weighs 68 = .ok (.invokestatic 107, 3) := dk_184 0 107 (dk_at dksX5_weighs_3 0 rfl rfl)
theorem dX5_weighs_71 : decode cX5_weighs 71 = .ok (.istore_n 3, 1) := dk_62 (dk_at dksX5_weighs_3 3 rfl rfl)
theorem dX5_weighs_72 : decode cX5_weighs 72 = .ok (.iinc 4 1, 3) := dk_132 4 1 (dk_at dksX5_weighs_3 4 rfl rfl)
theorem dX5_weighs_75 : decode cX5_weighs 75 = .ok (.goto (-54), 3) := dk_167 255 202 (dk_at dksX5_weighs_3 7 rfl rfl)
theorem dX5_weighs_78 : decode cX5_weighs 78 = .ok (.aload_n 0, 1) := dk_42 (dk_at dksX5_weighs_3 10 rfl rfl)
theorem dX5_weighs_79 : decode cX5_weighs 79 = .ok (.getfield 16, 3) := dk_180 0 16 (dk_at dksX5_weighs_3 11 rfl rfl)
theorem dX5_weighs_82 : decode cX5_weighs 82 = .ok (.aload_n 0, 1) := dk_42 (dk_at dksX5_weighs_3 14 rfl rfl)
theorem dX5_weighs_83 : decode cX5_weighs 83 = .ok (.iload_n 1, 1) := dk_27 (dk_at dksX5_weighs_3 15 rfl rfl)
theorem dX5_weighs_84 : decode cX5_weighs 84 = .ok (.iload_n 2, 1) := dk_28 (dk_at dksX5_weighs_3 16 rfl rfl)
theorem dX5_weighs_85 : decode cX5_weighs 85 = .ok (.invokevirtual 59, 3) := dk_182 0 59 (dk_at dksX5_weighs_3 17 rfl rfl)
theorem dX5_weighs_88 : decode cX5_weighs 88 = .ok (.iload_n 3, 1) := dk_29 (dk_at dksX5_weighs_3 20 rfl rfl)
theorem dX5_weighs_89 : decode cX5_weighs 89 = .ok (.iastore, 1) := dk_79 (dk_at dksX5_weighs_3 21 rfl rfl)
theorem dX5_weighs_90 : decode cX5_weighs 90 = .ok (.return_, 1) := dk_177 (dk_at dksX5_weighs_3 22 rfl rfl)
abbrev cX5_can : ByteArray := prog_7_method_4_code
def yX5_can : MethodName := ⟨RX5, "can", "(III)Z"⟩
def dkwX5_can_3 : List UInt8 := [172]
abbrev dktX5_can_3 : List UInt8 := dkwX5_can_3 ++ []
def dkwX5_can_2 : List UInt8 := [180, 0, 37, 180, 0, 49, 27, 182, 0, 85, 192, 0, 89, 180, 0, 91, 160, 0, 7, 4, 167, 0, 4, 3]
abbrev dktX5_can_2 : List UInt8 := dkwX5_can_2 ++ dktX5_can_3
def dkwX5_can_1 : List UInt8 := [180, 0, 33, 180, 0, 37, 42, 180, 0, 20, 28, 46, 2, 182, 0, 43, 42, 180, 0, 3, 180, 0, 33]
abbrev dktX5_can_1 : List UInt8 := dkwX5_can_1 ++ dktX5_can_2
def dkwX5_can_0 : List UInt8 := [42, 180, 0, 3, 27, 182, 0, 77, 153, 0, 61, 29, 28, 184, 0, 81, 154, 0, 53, 42, 180, 0, 3]
abbrev dktX5_can_0 : List UInt8 := dkwX5_can_0 ++ dktX5_can_1
theorem dksX5_can_0 : cX5_can.data.toList.drop 0 = dktX5_can_0 := by decide +kernel
theorem dksX5_can_1 : cX5_can.data.toList.drop 23 = dktX5_can_1 := dk_seg dksX5_can_0 23 rfl rfl
theorem dksX5_can_2 : cX5_can.data.toList.drop 46 = dktX5_can_2 := dk_seg dksX5_can_1 23 rfl rfl
theorem dksX5_can_3 : cX5_can.data.toList.drop 70 = dktX5_can_3 := dk_seg dksX5_can_2 24 rfl rfl
theorem dX5_can_0 : decode cX5_can 0 = .ok (.aload_n 0, 1) := dk_42 (dk_at dksX5_can_0 0 rfl rfl)
theorem dX5_can_1 : decode cX5_can 1 = .ok (.getfield 3, 3) := dk_180 0 3 (dk_at dksX5_can_0 1 rfl rfl)
theorem dX5_can_4 : decode cX5_can 4 = .ok (.iload_n 1, 1) := dk_27 (dk_at dksX5_can_0 4 rfl rfl)
theorem dX5_can_5 : decode cX5_can 5 = .ok (.invokevirtual 77, 3) := dk_182 0 77 (dk_at dksX5_can_0 5 rfl rfl)
theorem dX5_can_8 : decode cX5_can 8 = .ok (.ifCond .eq 61, 3) := dk_153 0 61 (dk_at dksX5_can_0 8 rfl rfl)
theorem dX5_can_11 : decode cX5_can 11 = .ok (.iload_n 3, 1) := dk_29 (dk_at dksX5_can_0 11 rfl rfl)
theorem dX5_can_12 : decode cX5_can 12 = .ok (.iload_n 2, 1) := dk_28 (dk_at dksX5_can_0 12 rfl rfl)
theorem dX5_can_13 : decode cX5_can 13 = .ok (.invokestatic 81, 3) := dk_184 0 81 (dk_at dksX5_can_0 13 rfl rfl)
theorem dX5_can_16 : decode cX5_can 16 = .ok (.ifCond .ne 53, 3) := dk_154 0 53 (dk_at dksX5_can_0 16 rfl rfl)
theorem dX5_can_19 : decode cX5_can 19 = .ok (.aload_n 0, 1) := dk_42 (dk_at dksX5_can_0 19 rfl rfl)
theorem dX5_can_20 : decode cX5_can 20 = .ok (.getfield 3, 3) := dk_180 0 3 (dk_at dksX5_can_0 20 rfl rfl)
theorem dX5_can_23 : decode cX5_can 23 = .ok (.getfield 33, 3) := dk_180 0 33 (dk_at dksX5_can_1 0 rfl rfl)
theorem dX5_can_26 : decode cX5_can 26 = .ok (.getfield 37, 3) := dk_180 0 37 (dk_at dksX5_can_1 3 rfl rfl)
theorem dX5_can_29 : decode cX5_can 29 = .ok (.aload_n 0, 1) := dk_42 (dk_at dksX5_can_1 6 rfl rfl)
theorem dX5_can_30 : decode cX5_can 30 = .ok (.getfield 20, 3) := dk_180 0 20 (dk_at dksX5_can_1 7 rfl rfl)
theorem dX5_can_33 : decode cX5_can 33 = .ok (.iload_n 2, 1) := dk_28 (dk_at dksX5_can_1 10 rfl rfl)
theorem dX5_can_34 : decode cX5_can 34 = .ok (.iaload, 1) := dk_46 (dk_at dksX5_can_1 11 rfl rfl)
theorem dX5_can_35 : decode cX5_can 35 = .ok (.iconst (-1), 1) := dk_2 (dk_at dksX5_can_1 12 rfl rfl)
theorem dX5_can_36 : decode cX5_can 36 = .ok (.invokevirtual 43, 3) := dk_182 0 43 (dk_at dksX5_can_1 13 rfl rfl)
theorem dX5_can_39 : decode cX5_can 39 = .ok (.aload_n 0, 1) := dk_42 (dk_at dksX5_can_1 16 rfl rfl)
theorem dX5_can_40 : decode cX5_can 40 = .ok (.getfield 3, 3) := dk_180 0 3 (dk_at dksX5_can_1 17 rfl rfl)
theorem dX5_can_43 : decode cX5_can 43 = .ok (.getfield 33, 3) := dk_180 0 33 (dk_at dksX5_can_1 20 rfl rfl)
theorem dX5_can_46 : decode cX5_can 46 = .ok (.getfield 37, 3) := dk_180 0 37 (dk_at dksX5_can_2 0 rfl rfl)
theorem dX5_can_49 : decode cX5_can 49 = .ok (.getfield 49, 3) := dk_180 0 49 (dk_at dksX5_can_2 3 rfl rfl)
theorem dX5_can_52 : decode cX5_can 52 = .ok (.iload_n 1, 1) := dk_27 (dk_at dksX5_can_2 6 rfl rfl)
theorem dX5_can_53 : decode cX5_can 53 = .ok (.invokevirtual 85, 3) := dk_182 0 85 (dk_at dksX5_can_2 7 rfl rfl)
theorem dX5_can_56 : decode cX5_can 56 = .ok (.checkcast 89, 3) := dk_192 0 89 (dk_at dksX5_can_2 10 rfl rfl)
theorem dX5_can_59 : decode cX5_can 59 = .ok (.getfield 91, 3) := dk_180 0 91 (dk_at dksX5_can_2 13 rfl rfl)
theorem dX5_can_62 : decode cX5_can 62 = .ok (.if_icmp .ne 7, 3) := dk_160 0 7 (dk_at dksX5_can_2 16 rfl rfl)
theorem dX5_can_65 : decode cX5_can 65 = .ok (.iconst 1, 1) := dk_4 (dk_at dksX5_can_2 19 rfl rfl)
theorem dX5_can_66 : decode cX5_can 66 = .ok (.goto 4, 3) := dk_167 0 4 (dk_at dksX5_can_2 20 rfl rfl)
theorem dX5_can_69 : decode cX5_can 69 = .ok (.iconst 0, 1) := dk_3 (dk_at dksX5_can_2 23 rfl rfl)
theorem dX5_can_70 : decode cX5_can 70 = .ok (.ireturn, 1) := dk_172 (dk_at dksX5_can_3 0 rfl rfl)
abbrev cX5_costs : ByteArray := prog_7_method_5_code
def yX5_costs : MethodName := ⟨RX5, "costs", "(II)I"⟩
def dkwX5_costs_2 : List UInt8 := [96, 172]
abbrev dktX5_costs_2 : List UInt8 := dkwX5_costs_2 ++ []
def dkwX5_costs_1 : List UInt8 := [160, 0, 7, 3, 167, 0, 5, 16, 100, 29, 6, 108, 42, 180, 0, 20, 28, 46, 6, 108, 100, 184, 0, 94]
abbrev dktX5_costs_1 : List UInt8 := dkwX5_costs_1 ++ dktX5_costs_2
def dkwX5_costs_0 : List UInt8 := [42, 180, 0, 3, 180, 0, 33, 180, 0, 69, 27, 184, 0, 73, 62, 29, 42, 180, 0, 20, 28, 46]
abbrev dktX5_costs_0 : List UInt8 := dkwX5_costs_0 ++ dktX5_costs_1
theorem dksX5_costs_0 : cX5_costs.data.toList.drop 0 = dktX5_costs_0 := by decide +kernel
theorem dksX5_costs_1 : cX5_costs.data.toList.drop 22 = dktX5_costs_1 := dk_seg dksX5_costs_0 22 rfl rfl
theorem dksX5_costs_2 : cX5_costs.data.toList.drop 46 = dktX5_costs_2 := dk_seg dksX5_costs_1 24 rfl rfl
theorem dX5_costs_0 : decode cX5_costs 0 = .ok (.aload_n 0, 1) := dk_42 (dk_at dksX5_costs_0 0 rfl rfl)
theorem dX5_costs_1 : decode cX5_costs 1 = .ok (.getfield 3, 3) := dk_180 0 3 (dk_at dksX5_costs_0 1 rfl rfl)
theorem dX5_costs_4 : decode cX5_costs 4 = .ok (.getfield 33, 3) := dk_180 0 33 (dk_at dksX5_costs_0 4 rfl rfl)
theorem dX5_costs_7 : decode cX5_costs 7 = .ok (.getfield 69, 3) := dk_180 0 69 (dk_at dksX5_costs_0 7 rfl rfl)
theorem dX5_costs_10 : decode cX5_costs 10 = .ok (.iload_n 1, 1) := dk_27 (dk_at dksX5_costs_0 10 rfl rfl)
theorem dX5_costs_11 : decode cX5_costs 11 = .ok (.invokestatic 73, 3) := dk_184 0 73 (dk_at dksX5_costs_0 11 rfl rfl)
theorem dX5_costs_14 : decode cX5_costs 14 = .ok (.istore_n 3, 1) := dk_62 (dk_at dksX5_costs_0 14 rfl rfl)
theorem dX5_costs_15 : decode cX5_costs 15 = .ok (.iload_n 3, 1) := dk_29 (dk_at dksX5_costs_0 15 rfl rfl)
theorem dX5_costs_16 : decode cX5_costs 16 = .ok (.aload_n 0, 1) := dk_42 (dk_at dksX5_costs_0 16 rfl rfl)
theorem dX5_costs_17 : decode cX5_costs 17 = .ok (.getfield 20, 3) := dk_180 0 20 (dk_at dksX5_costs_0 17 rfl rfl)
theorem dX5_costs_20 : decode cX5_costs 20 = .ok (.iload_n 2, 1) := dk_28 (dk_at dksX5_costs_0 20 rfl rfl)
theorem dX5_costs_21 : decode cX5_costs 21 = .ok (.iaload, 1) := dk_46 (dk_at dksX5_costs_0 21 rfl rfl)
theorem dX5_costs_22 : decode cX5_costs 22 = .ok (.if_icmp .ne 7, 3) := dk_160 0 7 (dk_at dksX5_costs_1 0 rfl rfl)
theorem dX5_costs_25 : decode cX5_costs 25 = .ok (.iconst 0, 1) := dk_3 (dk_at dksX5_costs_1 3 rfl rfl)
theorem dX5_costs_26 : decode cX5_costs 26 = .ok (.goto 5, 3) := dk_167 0 5 (dk_at dksX5_costs_1 4 rfl rfl)
theorem dX5_costs_29 : decode cX5_costs 29 = .ok (.bipush 100, 2) := dk_16 100 (dk_at dksX5_costs_1 7 rfl rfl)
theorem dX5_costs_31 : decode cX5_costs 31 = .ok (.iload_n 3, 1) := dk_29 (dk_at dksX5_costs_1 9 rfl rfl)
theorem dX5_costs_32 : decode cX5_costs 32 = .ok (.iconst 3, 1) := dk_6 (dk_at dksX5_costs_1 10 rfl rfl)
theorem dX5_costs_33 : decode cX5_costs 33 = .ok (.idiv, 1) := dk_108 (dk_at dksX5_costs_1 11 rfl rfl)
theorem dX5_costs_34 : decode cX5_costs 34 = .ok (.aload_n 0, 1) := dk_42 (dk_at dksX5_costs_1 12 rfl rfl)
theorem dX5_costs_35 : decode cX5_costs 35 = .ok (.getfield 20, 3) := dk_180 0 20 (dk_at dksX5_costs_1 13 rfl rfl)
theorem dX5_costs_38 : decode cX5_costs 38 = .ok (.iload_n 2, 1) := dk_28 (dk_at dksX5_costs_1 16 rfl rfl)
theorem dX5_costs_39 : decode cX5_costs 39 = .ok (.iaload, 1) := dk_46 (dk_at dksX5_costs_1 17 rfl rfl)
theorem dX5_costs_40 : decode cX5_costs 40 = .ok (.iconst 3, 1) := dk_6 (dk_at dksX5_costs_1 18 rfl rfl)
theorem dX5_costs_41 : decode cX5_costs 41 = .ok (.idiv, 1) := dk_108 (dk_at dksX5_costs_1 19 rfl rfl)
theorem dX5_costs_42 : decode cX5_costs 42 = .ok (.isub, 1) := dk_100 (dk_at dksX5_costs_1 20 rfl rfl)
theorem dX5_costs_43 : decode cX5_costs 43 = .ok (.invokestatic 94, 3) := dk_184 0 94 (dk_at dksX5_costs_1 21 rfl rfl)
theorem dX5_costs_46 : decode cX5_costs 46 = .ok (.iadd, 1) := dk_96 (dk_at dksX5_costs_2 0 rfl rfl)
theorem dX5_costs_47 : decode cX5_costs 47 = .ok (.ireturn, 1) := dk_172 (dk_at dksX5_costs_2 1 rfl rfl)
abbrev cX5_chosen : ByteArray := prog_7_method_7_code
def yX5_chosen : MethodName := ⟨RX5, "chosen", "(II)I"⟩
def dkwX5_chosen_2 : List UInt8 := [180, 0, 16, 42, 27, 28, 182, 0, 59, 46, 160, 0, 5, 29, 172, 132, 3, 1, 167, 255, 195, 2, 172]
abbrev dktX5_chosen_2 : List UInt8 := dkwX5_chosen_2 ++ []
def dkwX5_chosen_1 : List UInt8 := [182, 0, 104, 42, 180, 0, 16, 42, 27, 4, 96, 28, 4, 29, 120, 128, 182, 0, 59, 46, 96, 42]
abbrev dktX5_chosen_1 : List UInt8 := dkwX5_chosen_1 ++ dktX5_chosen_2
def dkwX5_chosen_0 : List UInt8 := [3, 62, 29, 42, 180, 0, 26, 162, 0, 59, 42, 27, 29, 28, 182, 0, 100, 153, 0, 43, 42, 27, 29]
abbrev dktX5_chosen_0 : List UInt8 := dkwX5_chosen_0 ++ dktX5_chosen_1
theorem dksX5_chosen_0 : cX5_chosen.data.toList.drop 0 = dktX5_chosen_0 := by decide +kernel
theorem dksX5_chosen_1 : cX5_chosen.data.toList.drop 23 = dktX5_chosen_1 := dk_seg dksX5_chosen_0 23 rfl rfl
theorem dksX5_chosen_2 : cX5_chosen.data.toList.drop 45 = dktX5_chosen_2 := dk_seg dksX5_chosen_1 22 rfl rfl
theorem dX5_chosen_0 : decode cX5_chosen 0 = .ok (.iconst 0, 1) := dk_3 (dk_at dksX5_chosen_0 0 rfl rfl)
theorem dX5_chosen_1 : decode cX5_chosen 1 = .ok (.istore_n 3, 1) := dk_62 (dk_at dksX5_chosen_0 1 rfl rfl)
theorem dX5_chosen_2 : decode cX5_chosen 2 = .ok (.iload_n 3, 1) := dk_29 (dk_at dksX5_chosen_0 2 rfl rfl)
theorem dX5_chosen_3 : decode cX5_chosen 3 = .ok (.aload_n 0, 1) := dk_42 (dk_at dksX5_chosen_0 3 rfl rfl)
theorem dX5_chosen_4 : decode cX5_chosen 4 = .ok (.getfield 26, 3) := dk_180 0 26 (dk_at dksX5_chosen_0 4 rfl rfl)
theorem dX5_chosen_7 : decode cX5_chosen 7 = .ok (.if_icmp .ge 59, 3) := dk_162 0 59 (dk_at dksX5_chosen_0 7 rfl rfl)
theorem dX5_chosen_10 : decode cX5_chosen 10 = .ok (.aload_n 0, 1) := dk_42 (dk_at dksX5_chosen_0 10 rfl rfl)
theorem dX5_chosen_11 : decode cX5_chosen 11 = .ok (.iload_n 1, 1) := dk_27 (dk_at dksX5_chosen_0 11 rfl rfl)
theorem dX5_chosen_12 : decode cX5_chosen 12 = .ok (.iload_n 3, 1) := dk_29 (dk_at dksX5_chosen_0 12 rfl rfl)
theorem dX5_chosen_13 : decode cX5_chosen 13 = .ok (.iload_n 2, 1) := dk_28 (dk_at dksX5_chosen_0 13 rfl rfl)
theorem dX5_chosen_14 : decode cX5_chosen 14 = .ok (.invokevirtual 100, 3) := dk_182 0 100 (dk_at dksX5_chosen_0 14 rfl rfl)
theorem dX5_chosen_17 : decode cX5_chosen 17 = .ok (.ifCond .eq 43, 3) := dk_153 0 43 (dk_at dksX5_chosen_0 17 rfl rfl)
theorem dX5_chosen_20 : decode cX5_chosen 20 = .ok (.aload_n 0, 1) := dk_42 (dk_at dksX5_chosen_0 20 rfl rfl)
theorem dX5_chosen_21 : decode cX5_chosen 21 = .ok (.iload_n 1, 1) := dk_27 (dk_at dksX5_chosen_0 21 rfl rfl)
theorem dX5_chosen_22 : decode cX5_chosen 22 = .ok (.iload_n 3, 1) := dk_29 (dk_at dksX5_chosen_0 22 rfl rfl)
theorem dX5_chosen_23 : decode cX5_chosen 23 = .ok (.invokevirtual 104, 3) := dk_182 0 104 (dk_at dksX5_chosen_1 0 rfl rfl)
theorem dX5_chosen_26 : decode cX5_chosen 26 = .ok (.aload_n 0, 1) := dk_42 (dk_at dksX5_chosen_1 3 rfl rfl)
theorem dX5_chosen_27 : decode cX5_chosen 27 = .ok (.getfield 16, 3) := dk_180 0 16 (dk_at dksX5_chosen_1 4 rfl rfl)
theorem dX5_chosen_30 : decode cX5_chosen 30 = .ok (.aload_n 0, 1) := dk_42 (dk_at dksX5_chosen_1 7 rfl rfl)
theorem dX5_chosen_31 : decode cX5_chosen 31 = .ok (.iload_n 1, 1) := dk_27 (dk_at dksX5_chosen_1 8 rfl rfl)
theorem dX5_chosen_32 : decode cX5_chosen 32 = .ok (.iconst 1, 1) := dk_4 (dk_at dksX5_chosen_1 9 rfl rfl)
theorem dX5_chosen_33 : decode cX5_chosen 33 = .ok (.iadd, 1) := dk_96 (dk_at dksX5_chosen_1 10 rfl rfl)
theorem dX5_chosen_34 : decode cX5_chosen 34 = .ok (.iload_n 2, 1) := dk_28 (dk_at dksX5_chosen_1 11 rfl rfl)
theorem dX5_chosen_35 : decode cX5_chosen 35 = .ok (.iconst 1, 1) := dk_4 (dk_at dksX5_chosen_1 12 rfl rfl)
theorem dX5_chosen_36 : decode cX5_chosen 36 = .ok (.iload_n 3, 1) := dk_29 (dk_at dksX5_chosen_1 13 rfl rfl)
theorem dX5_chosen_37 : decode cX5_chosen 37 = .ok (.ishl, 1) := dk_120 (dk_at dksX5_chosen_1 14 rfl rfl)
theorem dX5_chosen_38 : decode cX5_chosen 38 = .ok (.ior, 1) := dk_128 (dk_at dksX5_chosen_1 15 rfl rfl)
theorem dX5_chosen_39 : decode cX5_chosen 39 = .ok (.invokevirtual 59, 3) := dk_182 0 59 (dk_at dksX5_chosen_1 16 rfl rfl)
theorem dX5_chosen_42 : decode cX5_chosen 42 = .ok (.iaload, 1) := dk_46 (dk_at dksX5_chosen_1 19 rfl rfl)
theorem dX5_chosen_43 : decode cX5_chosen 43 = .ok (.iadd, 1) := dk_96 (dk_at dksX5_chosen_1 20 rfl rfl)
theorem dX5_chosen_44 : decode cX5_chosen 44 = .ok (.aload_n 0, 1) := dk_42 (dk_at dksX5_chosen_1 21 rfl rfl)
theorem dX5_chosen_45 : decode cX5_chosen 45 = .ok (.getfield 16, 3) := dk_180 0 16 (dk_at dksX5_chosen_2 0 rfl rfl)
theorem dX5_chosen_48 : decode cX5_chosen 48 = .ok (.aload_n 0, 1) := dk_42 (dk_at dksX5_chosen_2 3 rfl rfl)
theorem dX5_chosen_49 : decode cX5_chosen 49 = .ok (.iload_n 1, 1) := dk_27 (dk_at dksX5_chosen_2 4 rfl rfl)
theorem dX5_chosen_50 : decode cX5_chosen 50 = .ok (.iload_n 2, 1) := dk_28 (dk_at dksX5_chosen_2 5 rfl rfl)
theorem dX5_chosen_51 : decode cX5_chosen 51 = .ok (.invokevirtual 59, 3) := dk_182 0 59 (dk_at dksX5_chosen_2 6 rfl rfl)
theorem dX5_chosen_54 : decode cX5_chosen 54 = .ok (.iaload, 1) := dk_46 (dk_at dksX5_chosen_2 9 rfl rfl)
theorem dX5_chosen_55 : decode cX5_chosen 55 = .ok (.if_icmp .ne 5, 3) := dk_160 0 5 (dk_at dksX5_chosen_2 10 rfl rfl)
theorem dX5_chosen_58 : decode cX5_chosen 58 = .ok (.iload_n 3, 1) := dk_29 (dk_at dksX5_chosen_2 13 rfl rfl)
theorem dX5_chosen_59 : decode cX5_chosen 59 = .ok (.ireturn, 1) := dk_172 (dk_at dksX5_chosen_2 14 rfl rfl)
theorem dX5_chosen_60 : decode cX5_chosen 60 = .ok (.iinc 3 1, 3) := dk_132 3 1 (dk_at dksX5_chosen_2 15 rfl rfl)
theorem dX5_chosen_63 : decode cX5_chosen 63 = .ok (.goto (-61), 3) := dk_167 255 195 (dk_at dksX5_chosen_2 18 rfl rfl)
theorem dX5_chosen_66 : decode cX5_chosen 66 = .ok (.iconst (-1), 1) := dk_2 (dk_at dksX5_chosen_2 21 rfl rfl)
theorem dX5_chosen_67 : decode cX5_chosen 67 = .ok (.ireturn, 1) := dk_172 (dk_at dksX5_chosen_2 22 rfl rfl)
abbrev cX5_going : ByteArray := prog_7_method_9_code
def yX5_going : MethodName := ⟨RX5, "going", "()I"⟩
def dkwX5_going_2 : List UInt8 := [27, 172]
abbrev dktX5_going_2 : List UInt8 := dkwX5_going_2 ++ []
def dkwX5_going_1 : List UInt8 := [27, 42, 28, 182, 0, 110, 153, 0, 9, 4, 28, 120, 167, 0, 4, 3, 128, 60, 132, 2, 1, 167, 255, 215]
abbrev dktX5_going_1 : List UInt8 := dkwX5_going_1 ++ dktX5_going_2
def dkwX5_going_0 : List UInt8 := [3, 60, 3, 61, 28, 42, 180, 0, 3, 180, 0, 33, 180, 0, 37, 180, 0, 49, 182, 0, 53, 162, 0, 27]
abbrev dktX5_going_0 : List UInt8 := dkwX5_going_0 ++ dktX5_going_1
theorem dksX5_going_0 : cX5_going.data.toList.drop 0 = dktX5_going_0 := by decide +kernel
theorem dksX5_going_1 : cX5_going.data.toList.drop 24 = dktX5_going_1 := dk_seg dksX5_going_0 24 rfl rfl
theorem dksX5_going_2 : cX5_going.data.toList.drop 48 = dktX5_going_2 := dk_seg dksX5_going_1 24 rfl rfl
theorem dX5_going_0 : decode cX5_going 0 = .ok (.iconst 0, 1) := dk_3 (dk_at dksX5_going_0 0 rfl rfl)
theorem dX5_going_1 : decode cX5_going 1 = .ok (.istore_n 1, 1) := dk_60 (dk_at dksX5_going_0 1 rfl rfl)
theorem dX5_going_2 : decode cX5_going 2 = .ok (.iconst 0, 1) := dk_3 (dk_at dksX5_going_0 2 rfl rfl)
theorem dX5_going_3 : decode cX5_going 3 = .ok (.istore_n 2, 1) := dk_61 (dk_at dksX5_going_0 3 rfl rfl)
theorem dX5_going_4 : decode cX5_going 4 = .ok (.iload_n 2, 1) := dk_28 (dk_at dksX5_going_0 4 rfl rfl)
theorem dX5_going_5 : decode cX5_going 5 = .ok (.aload_n 0, 1) := dk_42 (dk_at dksX5_going_0 5 rfl rfl)
theorem dX5_going_6 : decode cX5_going 6 = .ok (.getfield 3, 3) := dk_180 0 3 (dk_at dksX5_going_0 6 rfl rfl)
theorem dX5_going_9 : decode cX5_going 9 = .ok (.getfield 33, 3) := dk_180 0 33 (dk_at dksX5_going_0 9 rfl rfl)
theorem dX5_going_12 : decode cX5_going 12 = .ok (.getfield 37, 3) := dk_180 0 37 (dk_at dksX5_going_0 12 rfl rfl)
theorem dX5_going_15 : decode cX5_going 15 = .ok (.getfield 49, 3) := dk_180 0 49 (dk_at dksX5_going_0 15 rfl rfl)
theorem dX5_going_18 : decode cX5_going 18 = .ok (.invokevirtual 53, 3) := dk_182 0 53 (dk_at dksX5_going_0 18 rfl rfl)
theorem dX5_going_21 : decode cX5_going 21 = .ok (.if_icmp .ge 27, 3) := dk_162 0 27 (dk_at dksX5_going_0 21 rfl rfl)
theorem dX5_going_24 : decode cX5_going 24 = .ok (.iload_n 1, 1) := dk_27 (dk_at dksX5_going_1 0 rfl rfl)
theorem dX5_going_25 : decode cX5_going 25 = .ok (.aload_n 0, 1) := dk_42 (dk_at dksX5_going_1 1 rfl rfl)
theorem dX5_going_26 : decode cX5_going 26 = .ok (.iload_n 2, 1) := dk_28 (dk_at dksX5_going_1 2 rfl rfl)
theorem dX5_going_27 : decode cX5_going 27 = .ok (.invokevirtual 110, 3) := dk_182 0 110 (dk_at dksX5_going_1 3 rfl rfl)
theorem dX5_going_30 : decode cX5_going 30 = .ok (.ifCond .eq 9, 3) := dk_153 0 9 (dk_at dksX5_going_1 6 rfl rfl)
theorem dX5_going_33 : decode cX5_going 33 = .ok (.iconst 1, 1) := dk_4 (dk_at dksX5_going_1 9 rfl rfl)
theorem dX5_going_34 : decode cX5_going 34 = .ok (.iload_n 2, 1) := dk_28 (dk_at dksX5_going_1 10 rfl rfl)
theorem dX5_going_35 : decode cX5_going 35 = .ok (.ishl, 1) := dk_120 (dk_at dksX5_going_1 11 rfl rfl)
theorem dX5_going_36 : decode cX5_going 36 = .ok (.goto 4, 3) := dk_167 0 4 (dk_at dksX5_going_1 12 rfl rfl)
theorem dX5_going_39 : decode cX5_going 39 = .ok (.iconst 0, 1) := dk_3 (dk_at dksX5_going_1 15 rfl rfl)
theorem dX5_going_40 : decode cX5_going 40 = .ok (.ior, 1) := dk_128 (dk_at dksX5_going_1 16 rfl rfl)
theorem dX5_going_41 : decode cX5_going 41 = .ok (.istore_n 1, 1) := dk_60 (dk_at dksX5_going_1 17 rfl rfl)
theorem dX5_going_42 : decode cX5_going 42 = .ok (.iinc 2 1, 3) := dk_132 2 1 (dk_at dksX5_going_1 18 rfl rfl)
theorem dX5_going_45 : decode cX5_going 45 = .ok (.goto (-41), 3) := dk_167 255 215 (dk_at dksX5_going_1 21 rfl rfl)
theorem dX5_going_48 : decode cX5_going 48 = .ok (.iload_n 1, 1) := dk_27 (dk_at dksX5_going_2 0 rfl rfl)
theorem dX5_going_49 : decode cX5_going 49 = .ok (.ireturn, 1) := dk_172 (dk_at dksX5_going_2 1 rfl rfl)
abbrev cX5_goes : ByteArray := prog_7_method_8_code
def yX5_goes : MethodName := ⟨RX5, "goes", "(I)Z"⟩
def dkwX5_goes_1 : List UInt8 := [180, 0, 69, 27, 184, 0, 73, 159, 0, 7, 4, 167, 0, 4, 3, 172]
abbrev dktX5_goes_1 : List UInt8 := dkwX5_goes_1 ++ []
def dkwX5_goes_0 : List UInt8 := [42, 180, 0, 23, 27, 46, 2, 159, 0, 30, 42, 180, 0, 23, 27, 46, 42, 180, 0, 3, 180, 0, 33]
abbrev dktX5_goes_0 : List UInt8 := dkwX5_goes_0 ++ dktX5_goes_1
theorem dksX5_goes_0 : cX5_goes.data.toList.drop 0 = dktX5_goes_0 := by decide +kernel
theorem dksX5_goes_1 : cX5_goes.data.toList.drop 23 = dktX5_goes_1 := dk_seg dksX5_goes_0 23 rfl rfl
theorem dX5_goes_0 : decode cX5_goes 0 = .ok (.aload_n 0, 1) := dk_42 (dk_at dksX5_goes_0 0 rfl rfl)
theorem dX5_goes_1 : decode cX5_goes 1 = .ok (.getfield 23, 3) := dk_180 0 23 (dk_at dksX5_goes_0 1 rfl rfl)
theorem dX5_goes_4 : decode cX5_goes 4 = .ok (.iload_n 1, 1) := dk_27 (dk_at dksX5_goes_0 4 rfl rfl)
theorem dX5_goes_5 : decode cX5_goes 5 = .ok (.iaload, 1) := dk_46 (dk_at dksX5_goes_0 5 rfl rfl)
theorem dX5_goes_6 : decode cX5_goes 6 = .ok (.iconst (-1), 1) := dk_2 (dk_at dksX5_goes_0 6 rfl rfl)
theorem dX5_goes_7 : decode cX5_goes 7 = .ok (.if_icmp .eq 30, 3) := dk_159 0 30 (dk_at dksX5_goes_0 7 rfl rfl)
theorem dX5_goes_10 : decode cX5_goes 10 = .ok (.aload_n 0, 1) := dk_42 (dk_at dksX5_goes_0 10 rfl rfl)
theorem dX5_goes_11 : decode cX5_goes 11 = .ok (.getfield 23, 3) := dk_180 0 23 (dk_at dksX5_goes_0 11 rfl rfl)
theorem dX5_goes_14 : decode cX5_goes 14 = .ok (.iload_n 1, 1) := dk_27 (dk_at dksX5_goes_0 14 rfl rfl)
theorem dX5_goes_15 : decode cX5_goes 15 = .ok (.iaload, 1) := dk_46 (dk_at dksX5_goes_0 15 rfl rfl)
theorem dX5_goes_16 : decode cX5_goes 16 = .ok (.aload_n 0, 1) := dk_42 (dk_at dksX5_goes_0 16 rfl rfl)
theorem dX5_goes_17 : decode cX5_goes 17 = .ok (.getfield 3, 3) := dk_180 0 3 (dk_at dksX5_goes_0 17 rfl rfl)
theorem dX5_goes_20 : decode cX5_goes 20 = .ok (.getfield 33, 3) := dk_180 0 33 (dk_at dksX5_goes_0 20 rfl rfl)
theorem dX5_goes_23 : decode cX5_goes 23 = .ok (.getfield 69, 3) := dk_180 0 69 (dk_at dksX5_goes_1 0 rfl rfl)
theorem dX5_goes_26 : decode cX5_goes 26 = .ok (.iload_n 1, 1) := dk_27 (dk_at dksX5_goes_1 3 rfl rfl)
theorem dX5_goes_27 : decode cX5_goes 27 = .ok (.invokestatic 73, 3) := dk_184 0 73 (dk_at dksX5_goes_1 4 rfl rfl)
theorem dX5_goes_30 : decode cX5_goes 30 = .ok (.if_icmp .eq 7, 3) := dk_159 0 7 (dk_at dksX5_goes_1 7 rfl rfl)
theorem dX5_goes_33 : decode cX5_goes 33 = .ok (.iconst 1, 1) := dk_4 (dk_at dksX5_goes_1 10 rfl rfl)
theorem dX5_goes_34 : decode cX5_goes 34 = .ok (.goto 4, 3) := dk_167 0 4 (dk_at dksX5_goes_1 11 rfl rfl)
theorem dX5_goes_37 : decode cX5_goes 37 = .ok (.iconst 0, 1) := dk_3 (dk_at dksX5_goes_1 14 rfl rfl)
theorem dX5_goes_38 : decode cX5_goes 38 = .ok (.ireturn, 1) := dk_172 (dk_at dksX5_goes_1 15 rfl rfl)
theorem q137 : (Jvm.Cond.initialized "StoneYear$Match") ∈ lw_all := lw_g (lw_at lw_m1 9 rfl) rfl
theorem q223 : (Jvm.Cond.fieldLinkNest "StoneYear$Match" (49 : Nat) "StoneYear$Town" "stones" "Ljava/util/ArrayList;" "StoneYear") ∈ lw_tbl := lw_at lw_m1 95 rfl
theorem q265 : (Jvm.Cond.fieldLinkNest "StoneYear$Match" (37 : Nat) "StoneYear$State" "town" "LStoneYear$Town;" "StoneYear") ∈ lw_tbl := lw_at lw_m1 137 rfl
theorem q271 : (Jvm.Cond.fieldLinkNest "StoneYear$Match" (69 : Nat) "StoneYear$State" "lies" "J" "StoneYear") ∈ lw_tbl := lw_at lw_m1 143 rfl
theorem q356 : (Jvm.Cond.instantiable "StoneYear$Match" (6 : Nat)) ∈ lw_all := lw_g (lw_at lw_m1 228 rfl) rfl
theorem q358 : (Jvm.Cond.instanceMethod ({ cls := "StoneYear$Match", name := "<init>", desc := "(LStoneYear;)V" } : Jvm.MethodName)) ∈ lw_all := lw_g (lw_at lw_m1 230 rfl) rfl
theorem q359 : (Jvm.Cond.code ({ cls := "StoneYear$Match", name := "<init>", desc := "(LStoneYear;)V" } : Jvm.MethodName) prog_7_method_1_code (2 : Nat) (Option.none : Option Jvm.ClassFile.FieldType)) ∈ lw_all := lw_g (lw_at lw_m1 231 rfl) rfl
theorem q360 : (Jvm.Cond.methodLink "StoneYear$Match" (9 : Nat) ({ cls := "java/lang/Object", name := "<init>", desc := "()V" } : Jvm.MethodName)) ∈ lw_all := lw_g (lw_at lw_m1 232 rfl) rfl
theorem q361 : (Jvm.Cond.constant "StoneYear$Match" (15 : Nat) (294912 : Int32)) ∈ lw_all := lw_g (lw_at lw_m1 233 rfl) rfl
theorem q362 : (Jvm.Cond.fieldLink "StoneYear$Match" (16 : Nat) "StoneYear$Match" "least" "[I") ∈ lw_all := lw_g (lw_at lw_m1 234 rfl) rfl
theorem q363 : (Jvm.Cond.fieldLink "StoneYear$Match" (20 : Nat) "StoneYear$Match" "place" "[I") ∈ lw_all := lw_g (lw_at lw_m1 235 rfl) rfl
theorem q364 : (Jvm.Cond.fieldLink "StoneYear$Match" (23 : Nat) "StoneYear$Match" "to" "[I") ∈ lw_all := lw_g (lw_at lw_m1 236 rfl) rfl
theorem q366 : (Jvm.Cond.fieldLink "StoneYear$Match" (26 : Nat) "StoneYear$Match" "places" "I") ∈ lw_all := lw_g (lw_at lw_m1 238 rfl) rfl
theorem q367 : (Jvm.Cond.fieldLink "StoneYear$Match" (30 : Nat) "StoneYear$Match" "elsewhere" "I") ∈ lw_all := lw_g (lw_at lw_m1 239 rfl) rfl
theorem q369 : (Jvm.Cond.fieldLink "StoneYear$Match" (3 : Nat) "StoneYear$Match" "this$0" "LStoneYear;") ∈ lw_all := lw_g (lw_at lw_m2 1 rfl) rfl
theorem q370 : (Jvm.Cond.laysFinal "StoneYear$Match" "StoneYear$Match" "least" "[I") ∈ lw_all := lw_g (lw_at lw_m2 2 rfl) rfl
theorem q371 : (Jvm.Cond.soleField "StoneYear$Match" "least") ∈ lw_all := lw_g (lw_at lw_m2 3 rfl) rfl
theorem q372 : (Jvm.Cond.laysFinal "StoneYear$Match" "StoneYear$Match" "place" "[I") ∈ lw_all := lw_g (lw_at lw_m2 4 rfl) rfl
theorem q373 : (Jvm.Cond.soleField "StoneYear$Match" "place") ∈ lw_all := lw_g (lw_at lw_m2 5 rfl) rfl
theorem q374 : (Jvm.Cond.laysFinal "StoneYear$Match" "StoneYear$Match" "to" "[I") ∈ lw_all := lw_g (lw_at lw_m2 6 rfl) rfl
theorem q375 : (Jvm.Cond.soleField "StoneYear$Match" "to") ∈ lw_all := lw_g (lw_at lw_m2 7 rfl) rfl
theorem q376 : (Jvm.Cond.lays "StoneYear$Match" "StoneYear$Match" "places" "I") ∈ lw_all := lw_g (lw_at lw_m2 8 rfl) rfl
theorem q377 : (Jvm.Cond.soleField "StoneYear$Match" "places") ∈ lw_all := lw_g (lw_at lw_m2 9 rfl) rfl
theorem q378 : (Jvm.Cond.lays "StoneYear$Match" "StoneYear$Match" "elsewhere" "I") ∈ lw_all := lw_g (lw_at lw_m2 10 rfl) rfl
theorem q379 : (Jvm.Cond.soleField "StoneYear$Match" "elsewhere") ∈ lw_all := lw_g (lw_at lw_m2 11 rfl) rfl
theorem q380 : (Jvm.Cond.laysFinal "StoneYear$Match" "StoneYear$Match" "this$0" "LStoneYear;") ∈ lw_all := lw_g (lw_at lw_m2 12 rfl) rfl
theorem q381 : (Jvm.Cond.soleField "StoneYear$Match" "this$0") ∈ lw_all := lw_g (lw_at lw_m2 13 rfl) rfl
theorem q382 : (Jvm.Cond.superclass "StoneYear$Match" "java/lang/Object") ∈ lw_all := lw_g (lw_at lw_m2 14 rfl) rfl
theorem q442 : (Jvm.Cond.fieldLinkNest "StoneYear$Match" (33 : Nat) "StoneYear" "s" "LStoneYear$State;" "StoneYear") ∈ lw_tbl := lw_at lw_m2 74 rfl
theorem q753 : (Jvm.Cond.selects "StoneYear$Match" ({ cls := "java/lang/Object", name := "getClass", desc := "()Ljava/lang/Class;" } : Jvm.MethodName) ({ cls := "java/lang/Object", name := "getClass", desc := "()Ljava/lang/Class;" } : Jvm.MethodName)) ∈ lw_all := lw_g (lw_at lw_m3 145 rfl) rfl
theorem q806 : (Jvm.Cond.fieldLinkNest "StoneYear$Match" (91 : Nat) "StoneYear$Stone" "sort" "I" "StoneYear") ∈ lw_tbl := lw_at lw_m3 198 rfl
theorem q1225 : (Jvm.Cond.instanceMethod ({ cls := "StoneYear$Match", name := "finds", desc := "()LStoneYear$Match;" } : Jvm.MethodName)) ∈ lw_all := lw_g (lw_at lw_m5 137 rfl) rfl
theorem q1226 : (Jvm.Cond.selects "StoneYear$Match" ({ cls := "StoneYear$Match", name := "finds", desc := "()LStoneYear$Match;" } : Jvm.MethodName) ({ cls := "StoneYear$Match", name := "finds", desc := "()LStoneYear$Match;" } : Jvm.MethodName)) ∈ lw_all := lw_g (lw_at lw_m5 138 rfl) rfl
theorem q1227 : (Jvm.Cond.code ({ cls := "StoneYear$Match", name := "finds", desc := "()LStoneYear$Match;" } : Jvm.MethodName) prog_7_method_3_code (5 : Nat) (Option.some (Jvm.ClassFile.FieldType.object "StoneYear$Match"))) ∈ lw_all := lw_g (lw_at lw_m5 139 rfl) rfl
theorem q1228 : (Jvm.Cond.methodLink "StoneYear$Match" (43 : Nat) ({ cls := "StoneYear$Town", name := "wished", desc := "(II)I" } : Jvm.MethodName)) ∈ lw_all := lw_g (lw_at lw_m5 140 rfl) rfl
theorem q1229 : (Jvm.Cond.methodLink "StoneYear$Match" (53 : Nat) ({ cls := "java/util/ArrayList", name := "size", desc := "()I" } : Jvm.MethodName)) ∈ lw_all := lw_g (lw_at lw_m5 141 rfl) rfl
theorem q1230 : (Jvm.Cond.methodLink "StoneYear$Match" (59 : Nat) ({ cls := "StoneYear$Match", name := "at", desc := "(II)I" } : Jvm.MethodName)) ∈ lw_all := lw_g (lw_at lw_m5 142 rfl) rfl
theorem q1231 : (Jvm.Cond.privateMethod ({ cls := "StoneYear$Match", name := "at", desc := "(II)I" } : Jvm.MethodName)) ∈ lw_tbl := lw_at lw_m5 143 rfl
theorem q1232 : (Jvm.Cond.instanceMethod ({ cls := "StoneYear$Match", name := "at", desc := "(II)I" } : Jvm.MethodName)) ∈ lw_all := lw_g (lw_at lw_m5 144 rfl) rfl
theorem q1233 : (Jvm.Cond.code ({ cls := "StoneYear$Match", name := "at", desc := "(II)I" } : Jvm.MethodName) prog_7_method_2_code (3 : Nat) (Option.some Jvm.ClassFile.FieldType.int)) ∈ lw_all := lw_g (lw_at lw_m5 145 rfl) rfl
theorem q1234 : (Jvm.Cond.methodLink "StoneYear$Match" (62 : Nat) ({ cls := "StoneYear$Match", name := "weighs", desc := "(II)V" } : Jvm.MethodName)) ∈ lw_all := lw_g (lw_at lw_m5 146 rfl) rfl
theorem q1235 : (Jvm.Cond.privateMethod ({ cls := "StoneYear$Match", name := "weighs", desc := "(II)V" } : Jvm.MethodName)) ∈ lw_tbl := lw_at lw_m5 147 rfl
theorem q1236 : (Jvm.Cond.instanceMethod ({ cls := "StoneYear$Match", name := "weighs", desc := "(II)V" } : Jvm.MethodName)) ∈ lw_all := lw_g (lw_at lw_m5 148 rfl) rfl
theorem q1237 : (Jvm.Cond.code ({ cls := "StoneYear$Match", name := "weighs", desc := "(II)V" } : Jvm.MethodName) prog_7_method_6_code (5 : Nat) (Option.none : Option Jvm.ClassFile.FieldType)) ∈ lw_all := lw_g (lw_at lw_m5 149 rfl) rfl
theorem q1238 : (Jvm.Cond.methodLink "StoneYear$Match" (100 : Nat) ({ cls := "StoneYear$Match", name := "can", desc := "(III)Z" } : Jvm.MethodName)) ∈ lw_all := lw_g (lw_at lw_m5 150 rfl) rfl
theorem q1239 : (Jvm.Cond.privateMethod ({ cls := "StoneYear$Match", name := "can", desc := "(III)Z" } : Jvm.MethodName)) ∈ lw_tbl := lw_at lw_m5 151 rfl
theorem q1240 : (Jvm.Cond.instanceMethod ({ cls := "StoneYear$Match", name := "can", desc := "(III)Z" } : Jvm.MethodName)) ∈ lw_all := lw_g (lw_at lw_m5 152 rfl) rfl
theorem q1241 : (Jvm.Cond.code ({ cls := "StoneYear$Match", name := "can", desc := "(III)Z" } : Jvm.MethodName) prog_7_method_4_code (4 : Nat) (Option.some Jvm.ClassFile.FieldType.boolean)) ∈ lw_all := lw_g (lw_at lw_m5 153 rfl) rfl
theorem q1242 : (Jvm.Cond.methodLinkNest "StoneYear$Match" (77 : Nat) ({ cls := "StoneYear", name := "isThere", desc := "(I)Z" } : Jvm.MethodName) "StoneYear") ∈ lw_tbl := lw_at lw_m5 154 rfl
theorem q1243 : (Jvm.Cond.methodLinkNest "StoneYear$Match" (81 : Nat) ({ cls := "StoneYear", name := "has", desc := "(II)Z" } : Jvm.MethodName) "StoneYear") ∈ lw_tbl := lw_at lw_m5 155 rfl
theorem q1244 : (Jvm.Cond.methodLink "StoneYear$Match" (85 : Nat) ({ cls := "java/util/ArrayList", name := "get", desc := "(I)Ljava/lang/Object;" } : Jvm.MethodName)) ∈ lw_all := lw_g (lw_at lw_m5 156 rfl) rfl
theorem q1245 : (Jvm.Cond.classLink "StoneYear$Match" (89 : Nat) "StoneYear$Stone") ∈ lw_all := lw_g (lw_at lw_m5 157 rfl) rfl
theorem q1246 : (Jvm.Cond.methodLink "StoneYear$Match" (104 : Nat) ({ cls := "StoneYear$Match", name := "costs", desc := "(II)I" } : Jvm.MethodName)) ∈ lw_all := lw_g (lw_at lw_m5 158 rfl) rfl
theorem q1247 : (Jvm.Cond.privateMethod ({ cls := "StoneYear$Match", name := "costs", desc := "(II)I" } : Jvm.MethodName)) ∈ lw_tbl := lw_at lw_m5 159 rfl
theorem q1248 : (Jvm.Cond.instanceMethod ({ cls := "StoneYear$Match", name := "costs", desc := "(II)I" } : Jvm.MethodName)) ∈ lw_all := lw_g (lw_at lw_m5 160 rfl) rfl
theorem q1249 : (Jvm.Cond.code ({ cls := "StoneYear$Match", name := "costs", desc := "(II)I" } : Jvm.MethodName) prog_7_method_5_code (4 : Nat) (Option.some Jvm.ClassFile.FieldType.int)) ∈ lw_all := lw_g (lw_at lw_m5 161 rfl) rfl
theorem q1250 : (Jvm.Cond.methodLinkNest "StoneYear$Match" (73 : Nat) ({ cls := "StoneYear", name := "placeIn", desc := "(JI)I" } : Jvm.MethodName) "StoneYear") ∈ lw_tbl := lw_at lw_m5 162 rfl
theorem q1251 : (Jvm.Cond.methodLink "StoneYear$Match" (94 : Nat) ({ cls := "java/lang/Math", name := "abs", desc := "(I)I" } : Jvm.MethodName)) ∈ lw_all := lw_g (lw_at lw_m5 163 rfl) rfl
theorem q1254 : (Jvm.Cond.methodLink "StoneYear$Match" (107 : Nat) ({ cls := "java/lang/Math", name := "min", desc := "(II)I" } : Jvm.MethodName)) ∈ lw_all := lw_g (lw_at lw_m5 166 rfl) rfl
theorem q1255 : (Jvm.Cond.methodLink "StoneYear$Match" (66 : Nat) ({ cls := "StoneYear$Match", name := "chosen", desc := "(II)I" } : Jvm.MethodName)) ∈ lw_all := lw_g (lw_at lw_m5 167 rfl) rfl
theorem q1256 : (Jvm.Cond.privateMethod ({ cls := "StoneYear$Match", name := "chosen", desc := "(II)I" } : Jvm.MethodName)) ∈ lw_tbl := lw_at lw_m5 168 rfl
theorem q1257 : (Jvm.Cond.instanceMethod ({ cls := "StoneYear$Match", name := "chosen", desc := "(II)I" } : Jvm.MethodName)) ∈ lw_all := lw_g (lw_at lw_m5 169 rfl) rfl
theorem q1258 : (Jvm.Cond.code ({ cls := "StoneYear$Match", name := "chosen", desc := "(II)I" } : Jvm.MethodName) prog_7_method_7_code (4 : Nat) (Option.some Jvm.ClassFile.FieldType.int)) ∈ lw_all := lw_g (lw_at lw_m5 170 rfl) rfl
theorem q1264 : (Jvm.Cond.instanceMethod ({ cls := "StoneYear$Match", name := "going", desc := "()I" } : Jvm.MethodName)) ∈ lw_all := lw_g (lw_at lw_m5 176 rfl) rfl
theorem q1265 : (Jvm.Cond.selects "StoneYear$Match" ({ cls := "StoneYear$Match", name := "going", desc := "()I" } : Jvm.MethodName) ({ cls := "StoneYear$Match", name := "going", desc := "()I" } : Jvm.MethodName)) ∈ lw_all := lw_g (lw_at lw_m5 177 rfl) rfl
theorem q1266 : (Jvm.Cond.code ({ cls := "StoneYear$Match", name := "going", desc := "()I" } : Jvm.MethodName) prog_7_method_9_code (3 : Nat) (Option.some Jvm.ClassFile.FieldType.int)) ∈ lw_all := lw_g (lw_at lw_m5 178 rfl) rfl
theorem q1267 : (Jvm.Cond.methodLink "StoneYear$Match" (110 : Nat) ({ cls := "StoneYear$Match", name := "goes", desc := "(I)Z" } : Jvm.MethodName)) ∈ lw_all := lw_g (lw_at lw_m5 179 rfl) rfl
theorem q1268 : (Jvm.Cond.instanceMethod ({ cls := "StoneYear$Match", name := "goes", desc := "(I)Z" } : Jvm.MethodName)) ∈ lw_all := lw_g (lw_at lw_m5 180 rfl) rfl
theorem q1269 : (Jvm.Cond.selects "StoneYear$Match" ({ cls := "StoneYear$Match", name := "goes", desc := "(I)Z" } : Jvm.MethodName) ({ cls := "StoneYear$Match", name := "goes", desc := "(I)Z" } : Jvm.MethodName)) ∈ lw_all := lw_g (lw_at lw_m5 181 rfl) rfl
theorem q1270 : (Jvm.Cond.code ({ cls := "StoneYear$Match", name := "goes", desc := "(I)Z" } : Jvm.MethodName) prog_7_method_8_code (2 : Nat) (Option.some Jvm.ClassFile.FieldType.boolean)) ∈ lw_all := lw_g (lw_at lw_m5 182 rfl) rfl
theorem q2241 : (Jvm.Cond.castable "StoneYear$Match" "java/lang/Object") ∈ lw_tbl := lw_at lw_m9 193 rfl
theorem in_X5 : ∀ w ∈ wsX50, w ∈ lw_all := lw_in wsX50 [370, 372, 374, 376, 378, 380] (by decide +kernel) (by decide +kernel)
/-! StoneYear$Table -/
set_option maxRecDepth 100000
def RX6 : String := "StoneYear$Table"
def TX6 : u_T := fun k => match k with
  | 0 => ("StoneYear$Table", "keys", "[J", true)
  | 1 => ("StoneYear$Table", "row", "[J", true)
  | 2 => ("StoneYear$Table", "slots", "[I", true)
  | _ => ("StoneYear$Table", "many", "I", false)
def tyX6 : Nat → FieldType := fun k => match k with
  | 0 => .array .long
  | 1 => .array .long
  | 2 => .array .int
  | _ => .int
abbrev wsX60 : List Cond := u_ws RX6 TX6 4
theorem nmX6 : ∀ a, a < 4 → ∀ b, b < 4 → a ≠ b → (TX6 a).2.1 ≠ (TX6 b).2.1 := by decide +kernel
theorem tyX6_ok : ∀ k, k < 4 → parseFieldDescriptor (TX6 k).2.2.1 = some (tyX6 k) := by decide +kernel
abbrev cX6_init : ByteArray := prog_17_method_1_code
def yX6_init : MethodName := ⟨RX6, "<init>", "()V"⟩
def dkwX6_init_1 : List UInt8 := [17, 23, 114, 188, 10, 181, 0, 18, 177]
abbrev dktX6_init_1 : List UInt8 := dkwX6_init_1 ++ []
def dkwX6_init_0 : List UInt8 := [42, 183, 0, 3, 42, 17, 64, 0, 188, 11, 181, 0, 11, 42, 17, 23, 114, 188, 11, 181, 0, 15, 42]
abbrev dktX6_init_0 : List UInt8 := dkwX6_init_0 ++ dktX6_init_1
theorem dksX6_init_0 : cX6_init.data.toList.drop 0 = dktX6_init_0 := by decide +kernel
theorem dksX6_init_1 : cX6_init.data.toList.drop 23 = dktX6_init_1 := dk_seg dksX6_init_0 23 rfl rfl
theorem dX6_init_0 : decode cX6_init 0 = .ok (.aload_n 0, 1) := dk_42 (dk_at dksX6_init_0 0 rfl rfl)
theorem dX6_init_1 : decode cX6_init 1 = .ok (.invokespecial 3, 3) := dk_183 0 3 (dk_at dksX6_init_0 1 rfl rfl)
theorem dX6_init_4 : decode cX6_init 4 = .ok (.aload_n 0, 1) := dk_42 (dk_at dksX6_init_0 4 rfl rfl)
theorem dX6_init_5 : decode cX6_init 5 = .ok (.sipush 16384, 3) := dk_17 64 0 (dk_at dksX6_init_0 5 rfl rfl)
theorem dX6_init_8 : decode cX6_init 8 = .ok (.newarray .long, 2) := dk_188_11 (dk_at dksX6_init_0 8 rfl rfl)
theorem dX6_init_10 : decode cX6_init 10 = .ok (.putfield 11, 3) := dk_181 0 11 (dk_at dksX6_init_0 10 rfl rfl)
theorem dX6_init_13 : decode cX6_init 13 = .ok (.aload_n 0, 1) := dk_42 (dk_at dksX6_init_0 13 rfl rfl)
theorem dX6_init_14 : decode cX6_init 14 = .ok (.sipush 6002, 3) := dk_17 23 114 (dk_at dksX6_init_0 14 rfl rfl)
theorem dX6_init_17 : decode cX6_init 17 = .ok (.newarray .long, 2) := dk_188_11 (dk_at dksX6_init_0 17 rfl rfl)
theorem dX6_init_19 : decode cX6_init 19 = .ok (.putfield 15, 3) := dk_181 0 15 (dk_at dksX6_init_0 19 rfl rfl)
theorem dX6_init_22 : decode cX6_init 22 = .ok (.aload_n 0, 1) := dk_42 (dk_at dksX6_init_0 22 rfl rfl)
theorem dX6_init_23 : decode cX6_init 23 = .ok (.sipush 6002, 3) := dk_17 23 114 (dk_at dksX6_init_1 0 rfl rfl)
theorem dX6_init_26 : decode cX6_init 26 = .ok (.newarray .int, 2) := dk_188_10 (dk_at dksX6_init_1 3 rfl rfl)
theorem dX6_init_28 : decode cX6_init 28 = .ok (.putfield 18, 3) := dk_181 0 18 (dk_at dksX6_init_1 5 rfl rfl)
theorem dX6_init_31 : decode cX6_init 31 = .ok (.return_, 1) := dk_177 (dk_at dksX6_init_1 8 rfl rfl)
abbrev cX6_clears : ByteArray := prog_17_method_2_code
def yX6_clears : MethodName := ⟨RX6, "clears", "()V"⟩
def dkwX6_clears_1 : List UInt8 := [132, 1, 1, 167, 255, 233, 42, 3, 181, 0, 22, 177]
abbrev dktX6_clears_1 : List UInt8 := dkwX6_clears_1 ++ []
def dkwX6_clears_0 : List UInt8 := [3, 60, 27, 42, 180, 0, 22, 162, 0, 21, 42, 180, 0, 11, 42, 180, 0, 18, 27, 46, 9, 80]
abbrev dktX6_clears_0 : List UInt8 := dkwX6_clears_0 ++ dktX6_clears_1
theorem dksX6_clears_0 : cX6_clears.data.toList.drop 0 = dktX6_clears_0 := by decide +kernel
theorem dksX6_clears_1 : cX6_clears.data.toList.drop 22 = dktX6_clears_1 := dk_seg dksX6_clears_0 22 rfl rfl
theorem dX6_clears_0 : decode cX6_clears 0 = .ok (.iconst 0, 1) := dk_3 (dk_at dksX6_clears_0 0 rfl rfl)
theorem dX6_clears_1 : decode cX6_clears 1 = .ok (.istore_n 1, 1) := dk_60 (dk_at dksX6_clears_0 1 rfl rfl)
theorem dX6_clears_2 : decode cX6_clears 2 = .ok (.iload_n 1, 1) := dk_27 (dk_at dksX6_clears_0 2 rfl rfl)
theorem dX6_clears_3 : decode cX6_clears 3 = .ok (.aload_n 0, 1) := dk_42 (dk_at dksX6_clears_0 3 rfl rfl)
theorem dX6_clears_4 : decode cX6_clears 4 = .ok (.getfield 22, 3) := dk_180 0 22 (dk_at dksX6_clears_0 4 rfl rfl)
theorem dX6_clears_7 : decode cX6_clears 7 = .ok (.if_icmp .ge 21, 3) := dk_162 0 21 (dk_at dksX6_clears_0 7 rfl rfl)
theorem dX6_clears_10 : decode cX6_clears 10 = .ok (.aload_n 0, 1) := dk_42 (dk_at dksX6_clears_0 10 rfl rfl)
theorem dX6_clears_11 : decode cX6_clears 11 = .ok (.getfield 11, 3) := dk_180 0 11 (dk_at dksX6_clears_0 11 rfl rfl)
theorem dX6_clears_14 : decode cX6_clears 14 = .ok (.aload_n 0, 1) := dk_42 (dk_at dksX6_clears_0 14 rfl rfl)
theorem dX6_clears_15 : decode cX6_clears 15 = .ok (.getfield 18, 3) := dk_180 0 18 (dk_at dksX6_clears_0 15 rfl rfl)
theorem dX6_clears_18 : decode cX6_clears 18 = .ok (.iload_n 1, 1) := dk_27 (dk_at dksX6_clears_0 18 rfl rfl)
theorem dX6_clears_19 : decode cX6_clears 19 = .ok (.iaload, 1) := dk_46 (dk_at dksX6_clears_0 19 rfl rfl)
theorem dX6_clears_20 : decode cX6_clears 20 = .ok (.lconst 0, 1) := dk_9 (dk_at dksX6_clears_0 20 rfl rfl)
theorem dX6_clears_21 : decode cX6_clears 21 = .ok (.lastore, 1) := dk_80 (dk_at dksX6_clears_0 21 rfl rfl)
theorem dX6_clears_22 : decode cX6_clears 22 = .ok (.iinc 1 1, 3) := dk_132 1 1 (dk_at dksX6_clears_1 0 rfl rfl)
theorem dX6_clears_25 : decode cX6_clears 25 = .ok (.goto (-23), 3) := dk_167 255 233 (dk_at dksX6_clears_1 3 rfl rfl)
theorem dX6_clears_28 : decode cX6_clears 28 = .ok (.aload_n 0, 1) := dk_42 (dk_at dksX6_clears_1 6 rfl rfl)
theorem dX6_clears_29 : decode cX6_clears 29 = .ok (.iconst 0, 1) := dk_3 (dk_at dksX6_clears_1 7 rfl rfl)
theorem dX6_clears_30 : decode cX6_clears 30 = .ok (.putfield 22, 3) := dk_181 0 22 (dk_at dksX6_clears_1 8 rfl rfl)
theorem dX6_clears_33 : decode cX6_clears 33 = .ok (.return_, 1) := dk_177 (dk_at dksX6_clears_1 11 rfl rfl)
abbrev cX6_adds : ByteArray := prog_17_method_5_code
def yX6_adds : MethodName := ⟨RX6, "adds", "(J)Z"⟩
def dkwX6_adds_2 : List UInt8 := [42, 89, 180, 0, 22, 4, 96, 181, 0, 22, 4, 172]
abbrev dktX6_adds_2 : List UInt8 := dkwX6_adds_2 ++ []
def dkwX6_adds_1 : List UInt8 := [31, 10, 97, 80, 42, 180, 0, 15, 42, 180, 0, 22, 31, 80, 42, 180, 0, 18, 42, 180, 0, 22, 29, 79]
abbrev dktX6_adds_1 : List UInt8 := dkwX6_adds_1 ++ dktX6_adds_2
def dkwX6_adds_0 : List UInt8 := [42, 31, 182, 0, 28, 62, 42, 180, 0, 11, 29, 47, 9, 148, 153, 0, 5, 3, 172, 42, 180, 0, 11, 29]
abbrev dktX6_adds_0 : List UInt8 := dkwX6_adds_0 ++ dktX6_adds_1
theorem dksX6_adds_0 : cX6_adds.data.toList.drop 0 = dktX6_adds_0 := by decide +kernel
theorem dksX6_adds_1 : cX6_adds.data.toList.drop 24 = dktX6_adds_1 := dk_seg dksX6_adds_0 24 rfl rfl
theorem dksX6_adds_2 : cX6_adds.data.toList.drop 48 = dktX6_adds_2 := dk_seg dksX6_adds_1 24 rfl rfl
theorem dX6_adds_0 : decode cX6_adds 0 = .ok (.aload_n 0, 1) := dk_42 (dk_at dksX6_adds_0 0 rfl rfl)
theorem dX6_adds_1 : decode cX6_adds 1 = .ok (.lload_n 1, 1) := dk_31 (dk_at dksX6_adds_0 1 rfl rfl)
theorem dX6_adds_2 : decode cX6_adds 2 = .ok (.invokevirtual 28, 3) := dk_182 0 28 (dk_at dksX6_adds_0 2 rfl rfl)
theorem dX6_adds_5 : decode cX6_adds 5 = .ok (.istore_n 3, 1) := dk_62 (dk_at dksX6_adds_0 5 rfl rfl)
theorem dX6_adds_6 : decode cX6_adds 6 = .ok (.aload_n 0, 1) := dk_42 (dk_at dksX6_adds_0 6 rfl rfl)
theorem dX6_adds_7 : decode cX6_adds 7 = .ok (.getfield 11, 3) := dk_180 0 11 (dk_at dksX6_adds_0 7 rfl rfl)
theorem dX6_adds_10 : decode cX6_adds 10 = .ok (.iload_n 3, 1) := dk_29 (dk_at dksX6_adds_0 10 rfl rfl)
theorem dX6_adds_11 : decode cX6_adds 11 = .ok (.laload, 1) := dk_47 (dk_at dksX6_adds_0 11 rfl rfl)
theorem dX6_adds_12 : decode cX6_adds 12 = .ok (.lconst 0, 1) := dk_9 (dk_at dksX6_adds_0 12 rfl rfl)
theorem dX6_adds_13 : decode cX6_adds 13 = .ok (.lcmp, 1) := dk_148 (dk_at dksX6_adds_0 13 rfl rfl)
theorem dX6_adds_14 : decode cX6_adds 14 = .ok (.ifCond .eq 5, 3) := dk_153 0 5 (dk_at dksX6_adds_0 14 rfl rfl)
theorem dX6_adds_17 : decode cX6_adds 17 = .ok (.iconst 0, 1) := dk_3 (dk_at dksX6_adds_0 17 rfl rfl)
theorem dX6_adds_18 : decode cX6_adds 18 = .ok (.ireturn, 1) := dk_172 (dk_at dksX6_adds_0 18 rfl rfl)
theorem dX6_adds_19 : decode cX6_adds 19 = .ok (.aload_n 0, 1) := dk_42 (dk_at dksX6_adds_0 19 rfl rfl)
theorem dX6_adds_20 : decode cX6_adds 20 = .ok (.getfield 11, 3) := dk_180 0 11 (dk_at dksX6_adds_0 20 rfl rfl)
theorem dX6_adds_23 : decode cX6_adds 23 = .ok (.iload_n 3, 1) := dk_29 (dk_at dksX6_adds_0 23 rfl rfl)
theorem dX6_adds_24 : decode cX6_adds 24 = .ok (.lload_n 1, 1) := dk_31 (dk_at dksX6_adds_1 0 rfl rfl)
theorem dX6_adds_25 : decode cX6_adds 25 = .ok (.lconst 1, 1) := dk_10 (dk_at dksX6_adds_1 1 rfl rfl)
theorem dX6_adds_26 : decode cX6_adds 26 = .ok (.ladd, 1) := dk_97 (dk_at dksX6_adds_1 2 rfl rfl)
theorem dX6_adds_27 : decode cX6_adds 27 = .ok (.lastore, 1) := dk_80 (dk_at dksX6_adds_1 3 rfl rfl)
theorem dX6_adds_28 : decode cX6_adds 28 = .ok (.aload_n 0, 1) := dk_42 (dk_at dksX6_adds_1 4 rfl rfl)
theorem dX6_adds_29 : decode cX6_adds 29 = .ok (.getfield 15, 3) := dk_180 0 15 (dk_at dksX6_adds_1 5 rfl rfl)
theorem dX6_adds_32 : decode cX6_adds 32 = .ok (.aload_n 0, 1) := dk_42 (dk_at dksX6_adds_1 8 rfl rfl)
theorem dX6_adds_33 : decode cX6_adds 33 = .ok (.getfield 22, 3) := dk_180 0 22 (dk_at dksX6_adds_1 9 rfl rfl)
theorem dX6_adds_36 : decode cX6_adds 36 = .ok (.lload_n 1, 1) := dk_31 (dk_at dksX6_adds_1 12 rfl rfl)
theorem dX6_adds_37 : decode cX6_adds 37 = .ok (.lastore, 1) := dk_80 (dk_at dksX6_adds_1 13 rfl rfl)
theorem dX6_adds_38 : decode cX6_adds 38 = .ok (.aload_n 0, 1) := dk_42 (dk_at dksX6_adds_1 14 rfl rfl)
theorem dX6_adds_39 : decode cX6_adds 39 = .ok (.getfield 18, 3) := dk_180 0 18 (dk_at dksX6_adds_1 15 rfl rfl)
theorem dX6_adds_42 : decode cX6_adds 42 = .ok (.aload_n 0, 1) := dk_42 (dk_at dksX6_adds_1 18 rfl rfl)
theorem dX6_adds_43 : decode cX6_adds 43 = .ok (.getfield 22, 3) := dk_180 0 22 (dk_at dksX6_adds_1 19 rfl rfl)
theorem dX6_adds_46 : decode cX6_adds 46 = .ok (.iload_n 3, 1) := dk_29 (dk_at dksX6_adds_1 22 rfl rfl)
theorem dX6_adds_47 : decode cX6_adds 47 = .ok (.iastore, 1) := dk_79 (dk_at dksX6_adds_1 23 rfl rfl)
theorem dX6_adds_48 : decode cX6_adds 48 = .ok (.aload_n 0, 1) := dk_42 (dk_at dksX6_adds_2 0 rfl rfl)
theorem dX6_adds_49 : decode cX6_adds 49 = .ok (.dup, 1) := dk_89 (dk_at dksX6_adds_2 1 rfl rfl)
theorem dX6_adds_50 : decode cX6_adds 50 = .ok (.getfield 22, 3) := dk_180 0 22 (dk_at dksX6_adds_2 2 rfl rfl)
theorem dX6_adds_53 : decode cX6_adds 53 = .ok (.iconst 1, 1) := dk_4 (dk_at dksX6_adds_2 5 rfl rfl)
theorem dX6_adds_54 : decode cX6_adds 54 = .ok (.iadd, 1) := dk_96 (dk_at dksX6_adds_2 6 rfl rfl)
theorem dX6_adds_55 : decode cX6_adds 55 = .ok (.putfield 22, 3) := dk_181 0 22 (dk_at dksX6_adds_2 7 rfl rfl)
theorem dX6_adds_58 : decode cX6_adds 58 = .ok (.iconst 1, 1) := dk_4 (dk_at dksX6_adds_2 10 rfl rfl)
theorem dX6_adds_59 : decode cX6_adds 59 = .ok (.ireturn, 1) := dk_172 (dk_at dksX6_adds_2 11 rfl rfl)
abbrev cX6_slot : ByteArray := prog_17_method_3_code
def yX6_slot : MethodName := ⟨RX6, "slot", "(J)I"⟩
def dkwX6_slot_2 : List UInt8 := [126, 54, 5, 167, 255, 220, 21, 5, 172]
abbrev dktX6_slot_2 : List UInt8 := dkwX6_slot_2 ++ []
def dkwX6_slot_1 : List UInt8 := [153, 0, 30, 42, 180, 0, 11, 21, 5, 47, 31, 10, 97, 148, 153, 0, 16, 21, 5, 4, 96, 17, 63, 255]
abbrev dktX6_slot_1 : List UInt8 := dkwX6_slot_1 ++ dktX6_slot_2
def dkwX6_slot_0 : List UInt8 := [31, 20, 0, 26, 105, 66, 33, 16, 50, 125, 136, 54, 5, 42, 180, 0, 11, 21, 5, 47, 9, 148]
abbrev dktX6_slot_0 : List UInt8 := dkwX6_slot_0 ++ dktX6_slot_1
theorem dksX6_slot_0 : cX6_slot.data.toList.drop 0 = dktX6_slot_0 := by decide +kernel
theorem dksX6_slot_1 : cX6_slot.data.toList.drop 22 = dktX6_slot_1 := dk_seg dksX6_slot_0 22 rfl rfl
theorem dksX6_slot_2 : cX6_slot.data.toList.drop 46 = dktX6_slot_2 := dk_seg dksX6_slot_1 24 rfl rfl
theorem dX6_slot_0 : decode cX6_slot 0 = .ok (.lload_n 1, 1) := dk_31 (dk_at dksX6_slot_0 0 rfl rfl)
theorem dX6_slot_1 : decode cX6_slot 1 = .ok (.ldc2_w 26, 3) := dk_20 0 26 (dk_at dksX6_slot_0 1 rfl rfl)
theorem dX6_slot_4 : decode cX6_slot 4 = .ok (.lmul, 1) := dk_105 (dk_at dksX6_slot_0 4 rfl rfl)
theorem dX6_slot_5 : decode cX6_slot 5 = .ok (.lstore_n 3, 1) := dk_66 (dk_at dksX6_slot_0 5 rfl rfl)
theorem dX6_slot_6 : decode cX6_slot 6 = .ok (.lload_n 3, 1) := dk_33 (dk_at dksX6_slot_0 6 rfl rfl)
theorem dX6_slot_7 : decode cX6_slot 7 = .ok (.bipush 50, 2) := dk_16 50 (dk_at dksX6_slot_0 7 rfl rfl)
theorem dX6_slot_9 : decode cX6_slot 9 = .ok (.lushr, 1) := dk_125 (dk_at dksX6_slot_0 9 rfl rfl)
theorem dX6_slot_10 : decode cX6_slot 10 = .ok (.l2i, 1) := dk_136 (dk_at dksX6_slot_0 10 rfl rfl)
theorem dX6_slot_11 : decode cX6_slot 11 = .ok (.istore 5, 2) := dk_54 5 (dk_at dksX6_slot_0 11 rfl rfl)
theorem dX6_slot_13 : decode cX6_slot 13 = .ok (.aload_n 0, 1) := dk_42 (dk_at dksX6_slot_0 13 rfl rfl)
theorem dX6_slot_14 : decode cX6_slot 14 = .ok (.getfield 11, 3) := dk_180 0 11 (dk_at dksX6_slot_0 14 rfl rfl)
theorem dX6_slot_17 : decode cX6_slot 17 = .ok (.iload 5, 2) := dk_21 5 (dk_at dksX6_slot_0 17 rfl rfl)
theorem dX6_slot_19 : decode cX6_slot 19 = .ok (.laload, 1) := dk_47 (dk_at dksX6_slot_0 19 rfl rfl)
theorem dX6_slot_20 : decode cX6_slot 20 = .ok (.lconst 0, 1) := dk_9 (dk_at dksX6_slot_0 20 rfl rfl)
theorem dX6_slot_21 : decode cX6_slot 21 = .ok (.lcmp, 1) := dk_148 (dk_at dksX6_slot_0 21 rfl rfl)
theorem dX6_slot_22 : decode cX6_slot 22 = .ok (.ifCond .eq 30, 3) := dk_153 0 30 (dk_at dksX6_slot_1 0 rfl rfl)
theorem dX6_slot_25 : decode cX6_slot 25 = .ok (.aload_n 0, 1) := dk_42 (dk_at dksX6_slot_1 3 rfl rfl)
theorem dX6_slot_26 : decode cX6_slot 26 = .ok (.getfield 11, 3) := dk_180 0 11 (dk_at dksX6_slot_1 4 rfl rfl)
theorem dX6_slot_29 : decode cX6_slot 29 = .ok (.iload 5, 2) := dk_21 5 (dk_at dksX6_slot_1 7 rfl rfl)
theorem dX6_slot_31 : decode cX6_slot 31 = .ok (.laload, 1) := dk_47 (dk_at dksX6_slot_1 9 rfl rfl)
theorem dX6_slot_32 : decode cX6_slot 32 = .ok (.lload_n 1, 1) := dk_31 (dk_at dksX6_slot_1 10 rfl rfl)
theorem dX6_slot_33 : decode cX6_slot 33 = .ok (.lconst 1, 1) := dk_10 (dk_at dksX6_slot_1 11 rfl rfl)
theorem dX6_slot_34 : decode cX6_slot 34 = .ok (.ladd, 1) := dk_97 (dk_at dksX6_slot_1 12 rfl rfl)
theorem dX6_slot_35 : decode cX6_slot 35 = .ok (.lcmp, 1) := dk_148 (dk_at dksX6_slot_1 13 rfl rfl)
theorem dX6_slot_36 : decode cX6_slot 36 = .ok (.ifCond .eq 16, 3) := dk_153 0 16 (dk_at dksX6_slot_1 14 rfl rfl)
theorem dX6_slot_39 : decode cX6_slot 39 = .ok (.iload 5, 2) := dk_21 5 (dk_at dksX6_slot_1 17 rfl rfl)
theorem dX6_slot_41 : decode cX6_slot 41 = .ok (.iconst 1, 1) := dk_4 (dk_at dksX6_slot_1 19 rfl rfl)
theorem dX6_slot_42 : decode cX6_slot 42 = .ok (.iadd, 1) := dk_96 (dk_at dksX6_slot_1 20 rfl rfl)
theorem dX6_slot_43 : decode cX6_slot 43 = .ok (.sipush 16383, 3) := dk_17 63 255 (dk_at dksX6_slot_1 21 rfl rfl)
theorem dX6_slot_46 : decode cX6_slot 46 = .ok (.iand, 1) := dk_126 (dk_at dksX6_slot_2 0 rfl rfl)
theorem dX6_slot_47 : decode cX6_slot 47 = .ok (.istore 5, 2) := dk_54 5 (dk_at dksX6_slot_2 1 rfl rfl)
theorem dX6_slot_49 : decode cX6_slot 49 = .ok (.goto (-36), 3) := dk_167 255 220 (dk_at dksX6_slot_2 3 rfl rfl)
theorem dX6_slot_52 : decode cX6_slot 52 = .ok (.iload 5, 2) := dk_21 5 (dk_at dksX6_slot_2 6 rfl rfl)
theorem dX6_slot_54 : decode cX6_slot 54 = .ok (.ireturn, 1) := dk_172 (dk_at dksX6_slot_2 8 rfl rfl)
abbrev cX6_has : ByteArray := prog_17_method_4_code
def yX6_has : MethodName := ⟨RX6, "has", "(J)Z"⟩
def dkwX6_has_0 : List UInt8 := [42, 180, 0, 11, 42, 31, 182, 0, 28, 47, 9, 148, 153, 0, 7, 4, 167, 0, 4, 3, 172]
abbrev dktX6_has_0 : List UInt8 := dkwX6_has_0 ++ []
theorem dksX6_has_0 : cX6_has.data.toList.drop 0 = dktX6_has_0 := by decide +kernel
theorem dX6_has_0 : decode cX6_has 0 = .ok (.aload_n 0, 1) := dk_42 (dk_at dksX6_has_0 0 rfl rfl)
theorem dX6_has_1 : decode cX6_has 1 = .ok (.getfield 11, 3) := dk_180 0 11 (dk_at dksX6_has_0 1 rfl rfl)
theorem dX6_has_4 : decode cX6_has 4 = .ok (.aload_n 0, 1) := dk_42 (dk_at dksX6_has_0 4 rfl rfl)
theorem dX6_has_5 : decode cX6_has 5 = .ok (.lload_n 1, 1) := dk_31 (dk_at dksX6_has_0 5 rfl rfl)
theorem dX6_has_6 : decode cX6_has 6 = .ok (.invokevirtual 28, 3) := dk_182 0 28 (dk_at dksX6_has_0 6 rfl rfl)
theorem dX6_has_9 : decode cX6_has 9 = .ok (.laload, 1) := dk_47 (dk_at dksX6_has_0 9 rfl rfl)
theorem dX6_has_10 : decode cX6_has 10 = .ok (.lconst 0, 1) := dk_9 (dk_at dksX6_has_0 10 rfl rfl)
theorem dX6_has_11 : decode cX6_has 11 = .ok (.lcmp, 1) := dk_148 (dk_at dksX6_has_0 11 rfl rfl)
theorem dX6_has_12 : decode cX6_has 12 = .ok (.ifCond .eq 7, 3) := dk_153 0 7 (dk_at dksX6_has_0 12 rfl rfl)
theorem dX6_has_15 : decode cX6_has 15 = .ok (.iconst 1, 1) := dk_4 (dk_at dksX6_has_0 15 rfl rfl)
theorem dX6_has_16 : decode cX6_has 16 = .ok (.goto 4, 3) := dk_167 0 4 (dk_at dksX6_has_0 16 rfl rfl)
theorem dX6_has_19 : decode cX6_has 19 = .ok (.iconst 0, 1) := dk_3 (dk_at dksX6_has_0 19 rfl rfl)
theorem dX6_has_20 : decode cX6_has 20 = .ok (.ireturn, 1) := dk_172 (dk_at dksX6_has_0 20 rfl rfl)
theorem q138 : (Jvm.Cond.initialized "StoneYear$Table") ∈ lw_all := lw_g (lw_at lw_m1 10 rfl) rfl
theorem q384 : (Jvm.Cond.instantiable "StoneYear$Table" (4 : Nat)) ∈ lw_all := lw_g (lw_at lw_m2 16 rfl) rfl
theorem q386 : (Jvm.Cond.instanceMethod ({ cls := "StoneYear$Table", name := "<init>", desc := "()V" } : Jvm.MethodName)) ∈ lw_all := lw_g (lw_at lw_m2 18 rfl) rfl
theorem q387 : (Jvm.Cond.code ({ cls := "StoneYear$Table", name := "<init>", desc := "()V" } : Jvm.MethodName) prog_17_method_1_code (1 : Nat) (Option.none : Option Jvm.ClassFile.FieldType)) ∈ lw_all := lw_g (lw_at lw_m2 19 rfl) rfl
theorem q388 : (Jvm.Cond.methodLink "StoneYear$Table" (3 : Nat) ({ cls := "java/lang/Object", name := "<init>", desc := "()V" } : Jvm.MethodName)) ∈ lw_all := lw_g (lw_at lw_m2 20 rfl) rfl
theorem q389 : (Jvm.Cond.fieldLink "StoneYear$Table" (11 : Nat) "StoneYear$Table" "keys" "[J") ∈ lw_all := lw_g (lw_at lw_m2 21 rfl) rfl
theorem q390 : (Jvm.Cond.fieldLink "StoneYear$Table" (15 : Nat) "StoneYear$Table" "row" "[J") ∈ lw_all := lw_g (lw_at lw_m2 22 rfl) rfl
theorem q392 : (Jvm.Cond.fieldLink "StoneYear$Table" (18 : Nat) "StoneYear$Table" "slots" "[I") ∈ lw_all := lw_g (lw_at lw_m2 24 rfl) rfl
theorem q393 : (Jvm.Cond.fieldLink "StoneYear$Table" (22 : Nat) "StoneYear$Table" "many" "I") ∈ lw_all := lw_g (lw_at lw_m2 25 rfl) rfl
theorem q395 : (Jvm.Cond.laysFinal "StoneYear$Table" "StoneYear$Table" "keys" "[J") ∈ lw_all := lw_g (lw_at lw_m2 27 rfl) rfl
theorem q396 : (Jvm.Cond.soleField "StoneYear$Table" "keys") ∈ lw_all := lw_g (lw_at lw_m2 28 rfl) rfl
theorem q397 : (Jvm.Cond.laysFinal "StoneYear$Table" "StoneYear$Table" "row" "[J") ∈ lw_all := lw_g (lw_at lw_m2 29 rfl) rfl
theorem q398 : (Jvm.Cond.soleField "StoneYear$Table" "row") ∈ lw_all := lw_g (lw_at lw_m2 30 rfl) rfl
theorem q399 : (Jvm.Cond.laysFinal "StoneYear$Table" "StoneYear$Table" "slots" "[I") ∈ lw_all := lw_g (lw_at lw_m2 31 rfl) rfl
theorem q400 : (Jvm.Cond.soleField "StoneYear$Table" "slots") ∈ lw_all := lw_g (lw_at lw_m2 32 rfl) rfl
theorem q401 : (Jvm.Cond.lays "StoneYear$Table" "StoneYear$Table" "many" "I") ∈ lw_all := lw_g (lw_at lw_m2 33 rfl) rfl
theorem q402 : (Jvm.Cond.soleField "StoneYear$Table" "many") ∈ lw_all := lw_g (lw_at lw_m2 34 rfl) rfl
theorem q403 : (Jvm.Cond.superclass "StoneYear$Table" "java/lang/Object") ∈ lw_all := lw_g (lw_at lw_m2 35 rfl) rfl
theorem q762 : (Jvm.Cond.selects "StoneYear$Table" ({ cls := "java/lang/Object", name := "getClass", desc := "()Ljava/lang/Class;" } : Jvm.MethodName) ({ cls := "java/lang/Object", name := "getClass", desc := "()Ljava/lang/Class;" } : Jvm.MethodName)) ∈ lw_all := lw_g (lw_at lw_m3 154 rfl) rfl
theorem q1312 : (Jvm.Cond.instanceMethod ({ cls := "StoneYear$Table", name := "clears", desc := "()V" } : Jvm.MethodName)) ∈ lw_all := lw_g (lw_at lw_m5 224 rfl) rfl
theorem q1313 : (Jvm.Cond.selects "StoneYear$Table" ({ cls := "StoneYear$Table", name := "clears", desc := "()V" } : Jvm.MethodName) ({ cls := "StoneYear$Table", name := "clears", desc := "()V" } : Jvm.MethodName)) ∈ lw_all := lw_g (lw_at lw_m5 225 rfl) rfl
theorem q1314 : (Jvm.Cond.code ({ cls := "StoneYear$Table", name := "clears", desc := "()V" } : Jvm.MethodName) prog_17_method_2_code (2 : Nat) (Option.none : Option Jvm.ClassFile.FieldType)) ∈ lw_all := lw_g (lw_at lw_m5 226 rfl) rfl
theorem q1316 : (Jvm.Cond.instanceMethod ({ cls := "StoneYear$Table", name := "adds", desc := "(J)Z" } : Jvm.MethodName)) ∈ lw_all := lw_g (lw_at lw_m5 228 rfl) rfl
theorem q1317 : (Jvm.Cond.selects "StoneYear$Table" ({ cls := "StoneYear$Table", name := "adds", desc := "(J)Z" } : Jvm.MethodName) ({ cls := "StoneYear$Table", name := "adds", desc := "(J)Z" } : Jvm.MethodName)) ∈ lw_all := lw_g (lw_at lw_m5 229 rfl) rfl
theorem q1318 : (Jvm.Cond.code ({ cls := "StoneYear$Table", name := "adds", desc := "(J)Z" } : Jvm.MethodName) prog_17_method_5_code (4 : Nat) (Option.some Jvm.ClassFile.FieldType.boolean)) ∈ lw_all := lw_g (lw_at lw_m5 230 rfl) rfl
theorem q1319 : (Jvm.Cond.methodLink "StoneYear$Table" (28 : Nat) ({ cls := "StoneYear$Table", name := "slot", desc := "(J)I" } : Jvm.MethodName)) ∈ lw_all := lw_g (lw_at lw_m5 231 rfl) rfl
theorem q1320 : (Jvm.Cond.privateMethod ({ cls := "StoneYear$Table", name := "slot", desc := "(J)I" } : Jvm.MethodName)) ∈ lw_tbl := lw_at lw_m5 232 rfl
theorem q1321 : (Jvm.Cond.instanceMethod ({ cls := "StoneYear$Table", name := "slot", desc := "(J)I" } : Jvm.MethodName)) ∈ lw_all := lw_g (lw_at lw_m5 233 rfl) rfl
theorem q1322 : (Jvm.Cond.code ({ cls := "StoneYear$Table", name := "slot", desc := "(J)I" } : Jvm.MethodName) prog_17_method_3_code (6 : Nat) (Option.some Jvm.ClassFile.FieldType.int)) ∈ lw_all := lw_g (lw_at lw_m5 234 rfl) rfl
theorem q1323 : (Jvm.Cond.constantLong "StoneYear$Table" (26 : Nat) (-7046029254386353131 : Int64)) ∈ lw_all := lw_g (lw_at lw_m5 235 rfl) rfl
theorem q1344 : (Jvm.Cond.instanceMethod ({ cls := "StoneYear$Table", name := "has", desc := "(J)Z" } : Jvm.MethodName)) ∈ lw_all := lw_g (lw_at lw_m6 16 rfl) rfl
theorem q1345 : (Jvm.Cond.selects "StoneYear$Table" ({ cls := "StoneYear$Table", name := "has", desc := "(J)Z" } : Jvm.MethodName) ({ cls := "StoneYear$Table", name := "has", desc := "(J)Z" } : Jvm.MethodName)) ∈ lw_all := lw_g (lw_at lw_m6 17 rfl) rfl
theorem q1346 : (Jvm.Cond.code ({ cls := "StoneYear$Table", name := "has", desc := "(J)Z" } : Jvm.MethodName) prog_17_method_4_code (3 : Nat) (Option.some Jvm.ClassFile.FieldType.boolean)) ∈ lw_all := lw_g (lw_at lw_m6 18 rfl) rfl
theorem q2242 : (Jvm.Cond.castable "StoneYear$Table" "java/lang/Object") ∈ lw_tbl := lw_at lw_m9 194 rfl
theorem in_X6 : ∀ w ∈ wsX60, w ∈ lw_all := lw_in wsX60 [395, 397, 399, 401] (by decide +kernel) (by decide +kernel)
/-! StoneYear$Numbers -/
set_option maxRecDepth 100000
def RX7 : String := "StoneYear$Numbers"
def TX7 : u_T := fun k => match k with
  | _ => ("StoneYear$Numbers", "held", "Ljava/lang/Object;", false)
def tyX7 : Nat → FieldType := fun k => match k with
  | _ => .object "java/lang/Object"
abbrev wsX70 : List Cond := u_ws RX7 TX7 1
theorem nmX7 : ∀ a, a < 1 → ∀ b, b < 1 → a ≠ b → (TX7 a).2.1 ≠ (TX7 b).2.1 := by decide +kernel
theorem tyX7_ok : ∀ k, k < 1 → parseFieldDescriptor (TX7 k).2.2.1 = some (tyX7 k) := by decide +kernel
abbrev cX7_init : ByteArray := prog_10_method_1_code
def yX7_init : MethodName := ⟨RX7, "<init>", "()V"⟩
theorem dX7_init_0 : decode cX7_init 0 = .ok (.aload_n 0, 1) := by decide +kernel
theorem dX7_init_1 : decode cX7_init 1 = .ok (.invokespecial 1, 3) := by decide +kernel
theorem dX7_init_4 : decode cX7_init 4 = .ok (.return_, 1) := by decide +kernel
abbrev cX7_many : ByteArray := prog_10_method_3_code
def yX7_many : MethodName := ⟨RX7, "many", "()I"⟩
def dkwX7_many_2 : List UInt8 := [153, 0, 14, 42, 180, 0, 7, 192, 0, 19, 190, 167, 0, 11, 42, 180, 0, 7, 192, 0, 21, 190, 172]
abbrev dktX7_many_2 : List UInt8 := dkwX7_many_2 ++ []
def dkwX7_many_1 : List UInt8 := [193, 0, 17, 153, 0, 12, 42, 180, 0, 7, 192, 0, 17, 190, 172, 42, 180, 0, 7, 193, 0, 19]
abbrev dktX7_many_1 : List UInt8 := dkwX7_many_1 ++ dktX7_many_2
def dkwX7_many_0 : List UInt8 := [42, 180, 0, 7, 193, 0, 15, 153, 0, 12, 42, 180, 0, 7, 192, 0, 15, 190, 172, 42, 180, 0, 7]
abbrev dktX7_many_0 : List UInt8 := dkwX7_many_0 ++ dktX7_many_1
theorem dksX7_many_0 : cX7_many.data.toList.drop 0 = dktX7_many_0 := by decide +kernel
theorem dksX7_many_1 : cX7_many.data.toList.drop 23 = dktX7_many_1 := dk_seg dksX7_many_0 23 rfl rfl
theorem dksX7_many_2 : cX7_many.data.toList.drop 45 = dktX7_many_2 := dk_seg dksX7_many_1 22 rfl rfl
theorem dX7_many_0 : decode cX7_many 0 = .ok (.aload_n 0, 1) := dk_42 (dk_at dksX7_many_0 0 rfl rfl)
theorem dX7_many_1 : decode cX7_many 1 = .ok (.getfield 7, 3) := dk_180 0 7 (dk_at dksX7_many_0 1 rfl rfl)
theorem dX7_many_4 : decode cX7_many 4 = .ok (.instanceof 15, 3) := dk_193 0 15 (dk_at dksX7_many_0 4 rfl rfl)
theorem dX7_many_7 : decode cX7_many 7 = .ok (.ifCond .eq 12, 3) := dk_153 0 12 (dk_at dksX7_many_0 7 rfl rfl)
theorem dX7_many_10 : decode cX7_many 10 = .ok (.aload_n 0, 1) := dk_42 (dk_at dksX7_many_0 10 rfl rfl)
theorem dX7_many_11 : decode cX7_many 11 = .ok (.getfield 7, 3) := dk_180 0 7 (dk_at dksX7_many_0 11 rfl rfl)
theorem dX7_many_14 : decode cX7_many 14 = .ok (.checkcast 15, 3) := dk_192 0 15 (dk_at dksX7_many_0 14 rfl rfl)
theorem dX7_many_17 : decode cX7_many 17 = .ok (.arraylength, 1) := dk_190 (dk_at dksX7_many_0 17 rfl rfl)
theorem dX7_many_18 : decode cX7_many 18 = .ok (.ireturn, 1) := dk_172 (dk_at dksX7_many_0 18 rfl rfl)
theorem dX7_many_19 : decode cX7_many 19 = .ok (.aload_n 0, 1) := dk_42 (dk_at dksX7_many_0 19 rfl rfl)
theorem dX7_many_20 : decode cX7_many 20 = .ok (.getfield 7, 3) := dk_180 0 7 (dk_at dksX7_many_0 20 rfl rfl)
theorem dX7_many_23 : decode cX7_many 23 = .ok (.instanceof 17, 3) := dk_193 0 17 (dk_at dksX7_many_1 0 rfl rfl)
theorem dX7_many_26 : decode cX7_many 26 = .ok (.ifCond .eq 12, 3) := dk_153 0 12 (dk_at dksX7_many_1 3 rfl rfl)
theorem dX7_many_29 : decode cX7_many 29 = .ok (.aload_n 0, 1) := dk_42 (dk_at dksX7_many_1 6 rfl rfl)
theorem dX7_many_30 : decode cX7_many 30 = .ok (.getfield 7, 3) := dk_180 0 7 (dk_at dksX7_many_1 7 rfl rfl)
theorem dX7_many_33 : decode cX7_many 33 = .ok (.checkcast 17, 3) := dk_192 0 17 (dk_at dksX7_many_1 10 rfl rfl)
theorem dX7_many_36 : decode cX7_many 36 = .ok (.arraylength, 1) := dk_190 (dk_at dksX7_many_1 13 rfl rfl)
theorem dX7_many_37 : decode cX7_many 37 = .ok (.ireturn, 1) := dk_172 (dk_at dksX7_many_1 14 rfl rfl)
theorem dX7_many_38 : decode cX7_many 38 = .ok (.aload_n 0, 1) := dk_42 (dk_at dksX7_many_1 15 rfl rfl)
theorem dX7_many_39 : decode cX7_many 39 = .ok (.getfield 7, 3) := dk_180 0 7 (dk_at dksX7_many_1 16 rfl rfl)
theorem dX7_many_42 : decode cX7_many 42 = .ok (.instanceof 19, 3) := dk_193 0 19 (dk_at dksX7_many_1 19 rfl rfl)
theorem dX7_many_45 : decode cX7_many 45 = .ok (.ifCond .eq 14, 3) := dk_153 0 14 (dk_at dksX7_many_2 0 rfl rfl)
theorem dX7_many_48 : decode cX7_many 48 = .ok (.aload_n 0, 1) := dk_42 (dk_at dksX7_many_2 3 rfl rfl)
theorem dX7_many_49 : decode cX7_many 49 = .ok (.getfield 7, 3) := dk_180 0 7 (dk_at dksX7_many_2 4 rfl rfl)
theorem dX7_many_52 : decode cX7_many 52 = .ok (.checkcast 19, 3) := dk_192 0 19 (dk_at dksX7_many_2 7 rfl rfl)
theorem dX7_many_55 : decode cX7_many 55 = .ok (.arraylength, 1) := dk_190 (dk_at dksX7_many_2 10 rfl rfl)
theorem dX7_many_56 : decode cX7_many 56 = .ok (.goto 11, 3) := dk_167 0 11 (dk_at dksX7_many_2 11 rfl rfl)
theorem dX7_many_59 : decode cX7_many 59 = .ok (.aload_n 0, 1) := dk_42 (dk_at dksX7_many_2 14 rfl rfl)
theorem dX7_many_60 : decode cX7_many 60 = .ok (.getfield 7, 3) := dk_180 0 7 (dk_at dksX7_many_2 15 rfl rfl)
theorem dX7_many_63 : decode cX7_many 63 = .ok (.checkcast 21, 3) := dk_192 0 21 (dk_at dksX7_many_2 18 rfl rfl)
theorem dX7_many_66 : decode cX7_many 66 = .ok (.arraylength, 1) := dk_190 (dk_at dksX7_many_2 21 rfl rfl)
theorem dX7_many_67 : decode cX7_many 67 = .ok (.ireturn, 1) := dk_172 (dk_at dksX7_many_2 22 rfl rfl)
abbrev cX7_number : ByteArray := prog_10_method_4_code
def yX7_number : MethodName := ⟨RX7, "number", "(I)J"⟩
def dkwX7_number_3 : List UInt8 := [192, 0, 21, 27, 47, 173]
abbrev dktX7_number_3 : List UInt8 := dkwX7_number_3 ++ []
def dkwX7_number_2 : List UInt8 := [193, 0, 19, 153, 0, 16, 42, 180, 0, 7, 192, 0, 19, 27, 46, 133, 167, 0, 12, 42, 180, 0, 7]
abbrev dktX7_number_2 : List UInt8 := dkwX7_number_2 ++ dktX7_number_3
def dkwX7_number_1 : List UInt8 := [180, 0, 7, 193, 0, 17, 153, 0, 14, 42, 180, 0, 7, 192, 0, 17, 27, 53, 133, 173, 42, 180, 0, 7]
abbrev dktX7_number_1 : List UInt8 := dkwX7_number_1 ++ dktX7_number_2
def dkwX7_number_0 : List UInt8 := [42, 180, 0, 7, 193, 0, 15, 153, 0, 14, 42, 180, 0, 7, 192, 0, 15, 27, 51, 133, 173, 42]
abbrev dktX7_number_0 : List UInt8 := dkwX7_number_0 ++ dktX7_number_1
theorem dksX7_number_0 : cX7_number.data.toList.drop 0 = dktX7_number_0 := by decide +kernel
theorem dksX7_number_1 : cX7_number.data.toList.drop 22 = dktX7_number_1 := dk_seg dksX7_number_0 22 rfl rfl
theorem dksX7_number_2 : cX7_number.data.toList.drop 46 = dktX7_number_2 := dk_seg dksX7_number_1 24 rfl rfl
theorem dksX7_number_3 : cX7_number.data.toList.drop 69 = dktX7_number_3 := dk_seg dksX7_number_2 23 rfl rfl
theorem dX7_number_0 : decode cX7_number 0 = .ok (.aload_n 0, 1) := dk_42 (dk_at dksX7_number_0 0 rfl rfl)
theorem dX7_number_1 : decode cX7_number 1 = .ok (.getfield 7, 3) := dk_180 0 7 (dk_at dksX7_number_0 1 rfl rfl)
theorem dX7_number_4 : decode cX7_number 4 = .ok (.instanceof 15, 3) := dk_193 0 15 (dk_at dksX7_number_0 4 rfl rfl)
theorem dX7_number_7 : decode cX7_number 7 = .ok (.ifCond .eq 14, 3) := dk_153 0 14 (dk_at dksX7_number_0 7 rfl rfl)
theorem dX7_number_10 : decode cX7_number 10 = .ok (.aload_n 0, 1) := dk_42 (dk_at dksX7_number_0 10 rfl rfl)
theorem dX7_number_11 : decode cX7_number 11 = .ok (.getfield 7, 3) := dk_180 0 7 (dk_at dksX7_number_0 11 rfl rfl)
theorem dX7_number_14 : decode cX7_number 14 = .ok (.checkcast 15, 3) := dk_192 0 15 (dk_at dksX7_number_0 14 rfl rfl)
theorem dX7_number_17 : decode cX7_number 17 = .ok (.iload_n 1, 1) := dk_27 (dk_at dksX7_number_0 17 rfl rfl)
theorem dX7_number_18 : decode cX7_number 18 = .ok (.baload, 1) := dk_51 (dk_at dksX7_number_0 18 rfl rfl)
theorem dX7_number_19 : decode cX7_number 19 = .ok (.i2l, 1) := dk_133 (dk_at dksX7_number_0 19 rfl rfl)
theorem dX7_number_20 : decode cX7_number 20 = .ok (.lreturn, 1) := dk_173 (dk_at dksX7_number_0 20 rfl rfl)
theorem dX7_number_21 : decode cX7_number 21 = .ok (.aload_n 0, 1) := dk_42 (dk_at dksX7_number_0 21 rfl rfl)
theorem dX7_number_22 : decode cX7_number 22 = .ok (.getfield 7, 3) := dk_180 0 7 (dk_at dksX7_number_1 0 rfl rfl)
theorem dX7_number_25 : decode cX7_number 25 = .ok (.instanceof 17, 3) := dk_193 0 17 (dk_at dksX7_number_1 3 rfl rfl)
theorem dX7_number_28 : decode cX7_number 28 = .ok (.ifCond .eq 14, 3) := dk_153 0 14 (dk_at dksX7_number_1 6 rfl rfl)
theorem dX7_number_31 : decode cX7_number 31 = .ok (.aload_n 0, 1) := dk_42 (dk_at dksX7_number_1 9 rfl rfl)
theorem dX7_number_32 : decode cX7_number 32 = .ok (.getfield 7, 3) := dk_180 0 7 (dk_at dksX7_number_1 10 rfl rfl)
theorem dX7_number_35 : decode cX7_number 35 = .ok (.checkcast 17, 3) := dk_192 0 17 (dk_at dksX7_number_1 13 rfl rfl)
theorem dX7_number_38 : decode cX7_number 38 = .ok (.iload_n 1, 1) := dk_27 (dk_at dksX7_number_1 16 rfl rfl)
theorem dX7_number_39 : decode cX7_number 39 = .ok (.saload, 1) := dk_53 (dk_at dksX7_number_1 17 rfl rfl)
theorem dX7_number_40 : decode cX7_number 40 = .ok (.i2l, 1) := dk_133 (dk_at dksX7_number_1 18 rfl rfl)
theorem dX7_number_41 : decode cX7_number 41 = .ok (.lreturn, 1) := dk_173 (dk_at dksX7_number_1 19 rfl rfl)
theorem dX7_number_42 : decode cX7_number 42 = .ok (.aload_n 0, 1) := dk_42 (dk_at dksX7_number_1 20 rfl rfl)
theorem dX7_number_43 : decode cX7_number 43 = .ok (.getfield 7, 3) := dk_180 0 7 (dk_at dksX7_number_1 21 rfl rfl)
theorem dX7_number_46 : decode cX7_number 46 = .ok (.instanceof 19, 3) := dk_193 0 19 (dk_at dksX7_number_2 0 rfl rfl)
theorem dX7_number_49 : decode cX7_number 49 = .ok (.ifCond .eq 16, 3) := dk_153 0 16 (dk_at dksX7_number_2 3 rfl rfl)
theorem dX7_number_52 : decode cX7_number 52 = .ok (.aload_n 0, 1) := dk_42 (dk_at dksX7_number_2 6 rfl rfl)
theorem dX7_number_53 : decode cX7_number 53 = .ok (.getfield 7, 3) := dk_180 0 7 (dk_at dksX7_number_2 7 rfl rfl)
theorem dX7_number_56 : decode cX7_number 56 = .ok (.checkcast 19, 3) := dk_192 0 19 (dk_at dksX7_number_2 10 rfl rfl)
theorem dX7_number_59 : decode cX7_number 59 = .ok (.iload_n 1, 1) := dk_27 (dk_at dksX7_number_2 13 rfl rfl)
theorem dX7_number_60 : decode cX7_number 60 = .ok (.iaload, 1) := dk_46 (dk_at dksX7_number_2 14 rfl rfl)
theorem dX7_number_61 : decode cX7_number 61 = .ok (.i2l, 1) := dk_133 (dk_at dksX7_number_2 15 rfl rfl)
theorem dX7_number_62 : decode cX7_number 62 = .ok (.goto 12, 3) := dk_167 0 12 (dk_at dksX7_number_2 16 rfl rfl)
theorem dX7_number_65 : decode cX7_number 65 = .ok (.aload_n 0, 1) := dk_42 (dk_at dksX7_number_2 19 rfl rfl)
theorem dX7_number_66 : decode cX7_number 66 = .ok (.getfield 7, 3) := dk_180 0 7 (dk_at dksX7_number_2 20 rfl rfl)
theorem dX7_number_69 : decode cX7_number 69 = .ok (.checkcast 21, 3) := dk_192 0 21 (dk_at dksX7_number_3 0 rfl rfl)
theorem dX7_number_72 : decode cX7_number 72 = .ok (.iload_n 1, 1) := dk_27 (dk_at dksX7_number_3 3 rfl rfl)
theorem dX7_number_73 : decode cX7_number 73 = .ok (.laload, 1) := dk_47 (dk_at dksX7_number_3 4 rfl rfl)
theorem dX7_number_74 : decode cX7_number 74 = .ok (.lreturn, 1) := dk_173 (dk_at dksX7_number_3 5 rfl rfl)
abbrev cX7_begins : ByteArray := prog_10_method_2_code
def yX7_begins : MethodName := ⟨RX7, "begins", "(II)Z"⟩
def dkwX7_begins_3 : List UInt8 := [181, 0, 7, 167, 0, 10, 42, 28, 188, 11, 181, 0, 7, 4, 172, 78, 3, 172]
abbrev dktX7_begins_3 : List UInt8 := dkwX7_begins_3 ++ []
def dkwX7_begins_2 : List UInt8 := [42, 28, 188, 8, 181, 0, 7, 167, 0, 30, 42, 28, 188, 9, 181, 0, 7, 167, 0, 20, 42, 28, 188, 10]
abbrev dktX7_begins_2 : List UInt8 := dkwX7_begins_2 ++ dktX7_begins_3
def dkwX7_begins_1 : List UInt8 := [170, 0, 0, 0, 0, 0, 57, 0, 0, 0, 0, 0, 0, 0, 2, 0, 0, 0, 27, 0, 0, 0, 37, 0, 0, 0, 47]
abbrev dktX7_begins_1 : List UInt8 := dkwX7_begins_1 ++ dktX7_begins_2
def dkwX7_begins_0 : List UInt8 := [27]
abbrev dktX7_begins_0 : List UInt8 := dkwX7_begins_0 ++ dktX7_begins_1
theorem dksX7_begins_0 : cX7_begins.data.toList.drop 0 = dktX7_begins_0 := by decide +kernel
theorem dksX7_begins_1 : cX7_begins.data.toList.drop 1 = dktX7_begins_1 := dk_seg dksX7_begins_0 1 rfl rfl
theorem dksX7_begins_2 : cX7_begins.data.toList.drop 28 = dktX7_begins_2 := dk_seg dksX7_begins_1 27 rfl rfl
theorem dksX7_begins_3 : cX7_begins.data.toList.drop 52 = dktX7_begins_3 := dk_seg dksX7_begins_2 24 rfl rfl
theorem dX7_begins_0 : decode cX7_begins 0 = .ok (.iload_n 1, 1) := dk_27 (dk_at dksX7_begins_0 0 rfl rfl)
theorem dX7_begins_1 : decode cX7_begins 1 = .ok (.tableswitch 57 0 2 #[27, 37, 47], 27) := by decide +kernel
theorem dX7_begins_28 : decode cX7_begins 28 = .ok (.aload_n 0, 1) := dk_42 (dk_at dksX7_begins_2 0 rfl rfl)
theorem dX7_begins_29 : decode cX7_begins 29 = .ok (.iload_n 2, 1) := dk_28 (dk_at dksX7_begins_2 1 rfl rfl)
theorem dX7_begins_30 : decode cX7_begins 30 = .ok (.newarray .byte, 2) := dk_188_8 (dk_at dksX7_begins_2 2 rfl rfl)
theorem dX7_begins_32 : decode cX7_begins 32 = .ok (.putfield 7, 3) := dk_181 0 7 (dk_at dksX7_begins_2 4 rfl rfl)
theorem dX7_begins_35 : decode cX7_begins 35 = .ok (.goto 30, 3) := dk_167 0 30 (dk_at dksX7_begins_2 7 rfl rfl)
theorem dX7_begins_38 : decode cX7_begins 38 = .ok (.aload_n 0, 1) := dk_42 (dk_at dksX7_begins_2 10 rfl rfl)
theorem dX7_begins_39 : decode cX7_begins 39 = .ok (.iload_n 2, 1) := dk_28 (dk_at dksX7_begins_2 11 rfl rfl)
theorem dX7_begins_40 : decode cX7_begins 40 = .ok (.newarray .short, 2) := dk_188_9 (dk_at dksX7_begins_2 12 rfl rfl)
theorem dX7_begins_42 : decode cX7_begins 42 = .ok (.putfield 7, 3) := dk_181 0 7 (dk_at dksX7_begins_2 14 rfl rfl)
theorem dX7_begins_45 : decode cX7_begins 45 = .ok (.goto 20, 3) := dk_167 0 20 (dk_at dksX7_begins_2 17 rfl rfl)
theorem dX7_begins_48 : decode cX7_begins 48 = .ok (.aload_n 0, 1) := dk_42 (dk_at dksX7_begins_2 20 rfl rfl)
theorem dX7_begins_49 : decode cX7_begins 49 = .ok (.iload_n 2, 1) := dk_28 (dk_at dksX7_begins_2 21 rfl rfl)
theorem dX7_begins_50 : decode cX7_begins 50 = .ok (.newarray .int, 2) := dk_188_10 (dk_at dksX7_begins_2 22 rfl rfl)
theorem dX7_begins_52 : decode cX7_begins 52 = .ok (.putfield 7, 3) := dk_181 0 7 (dk_at dksX7_begins_3 0 rfl rfl)
theorem dX7_begins_55 : decode cX7_begins 55 = .ok (.goto 10, 3) := dk_167 0 10 (dk_at dksX7_begins_3 3 rfl rfl)
theorem dX7_begins_58 : decode cX7_begins 58 = .ok (.aload_n 0, 1) := dk_42 (dk_at dksX7_begins_3 6 rfl rfl)
theorem dX7_begins_59 : decode cX7_begins 59 = .ok (.iload_n 2, 1) := dk_28 (dk_at dksX7_begins_3 7 rfl rfl)
theorem dX7_begins_60 : decode cX7_begins 60 = .ok (.newarray .long, 2) := dk_188_11 (dk_at dksX7_begins_3 8 rfl rfl)
theorem dX7_begins_62 : decode cX7_begins 62 = .ok (.putfield 7, 3) := dk_181 0 7 (dk_at dksX7_begins_3 10 rfl rfl)
theorem dX7_begins_65 : decode cX7_begins 65 = .ok (.iconst 1, 1) := dk_4 (dk_at dksX7_begins_3 13 rfl rfl)
theorem dX7_begins_66 : decode cX7_begins 66 = .ok (.ireturn, 1) := dk_172 (dk_at dksX7_begins_3 14 rfl rfl)
theorem dX7_begins_67 : decode cX7_begins 67 = .ok (.astore_n 3, 1) := dk_78 (dk_at dksX7_begins_3 15 rfl rfl)
theorem dX7_begins_68 : decode cX7_begins 68 = .ok (.iconst 0, 1) := dk_3 (dk_at dksX7_begins_3 16 rfl rfl)
theorem dX7_begins_69 : decode cX7_begins 69 = .ok (.ireturn, 1) := dk_172 (dk_at dksX7_begins_3 17 rfl rfl)
abbrev cX7_puts : ByteArray := prog_10_method_5_code
def yX7_puts : MethodName := ⟨RX7, "puts", "(IJ)V"⟩
def dkwX7_puts_3 : List UInt8 := [79, 167, 0, 13, 42, 180, 0, 7, 192, 0, 21, 27, 32, 80, 177]
abbrev dktX7_puts_3 : List UInt8 := dkwX7_puts_3 ++ []
def dkwX7_puts_2 : List UInt8 := [86, 167, 0, 37, 42, 180, 0, 7, 193, 0, 19, 153, 0, 17, 42, 180, 0, 7, 192, 0, 19, 27, 32, 136]
abbrev dktX7_puts_2 : List UInt8 := dkwX7_puts_2 ++ dktX7_puts_3
def dkwX7_puts_1 : List UInt8 := [167, 0, 62, 42, 180, 0, 7, 193, 0, 17, 153, 0, 18, 42, 180, 0, 7, 192, 0, 17, 27, 32, 136, 147]
abbrev dktX7_puts_1 : List UInt8 := dkwX7_puts_1 ++ dktX7_puts_2
def dkwX7_puts_0 : List UInt8 := [42, 180, 0, 7, 193, 0, 15, 153, 0, 18, 42, 180, 0, 7, 192, 0, 15, 27, 32, 136, 145, 84]
abbrev dktX7_puts_0 : List UInt8 := dkwX7_puts_0 ++ dktX7_puts_1
theorem dksX7_puts_0 : cX7_puts.data.toList.drop 0 = dktX7_puts_0 := by decide +kernel
theorem dksX7_puts_1 : cX7_puts.data.toList.drop 22 = dktX7_puts_1 := dk_seg dksX7_puts_0 22 rfl rfl
theorem dksX7_puts_2 : cX7_puts.data.toList.drop 46 = dktX7_puts_2 := dk_seg dksX7_puts_1 24 rfl rfl
theorem dksX7_puts_3 : cX7_puts.data.toList.drop 70 = dktX7_puts_3 := dk_seg dksX7_puts_2 24 rfl rfl
theorem dX7_puts_0 : decode cX7_puts 0 = .ok (.aload_n 0, 1) := dk_42 (dk_at dksX7_puts_0 0 rfl rfl)
theorem dX7_puts_1 : decode cX7_puts 1 = .ok (.getfield 7, 3) := dk_180 0 7 (dk_at dksX7_puts_0 1 rfl rfl)
theorem dX7_puts_4 : decode cX7_puts 4 = .ok (.instanceof 15, 3) := dk_193 0 15 (dk_at dksX7_puts_0 4 rfl rfl)
theorem dX7_puts_7 : decode cX7_puts 7 = .ok (.ifCond .eq 18, 3) := dk_153 0 18 (dk_at dksX7_puts_0 7 rfl rfl)
theorem dX7_puts_10 : decode cX7_puts 10 = .ok (.aload_n 0, 1) := dk_42 (dk_at dksX7_puts_0 10 rfl rfl)
theorem dX7_puts_11 : decode cX7_puts 11 = .ok (.getfield 7, 3) := dk_180 0 7 (dk_at dksX7_puts_0 11 rfl rfl)
theorem dX7_puts_14 : decode cX7_puts 14 = .ok (.checkcast 15, 3) := dk_192 0 15 (dk_at dksX7_puts_0 14 rfl rfl)
theorem dX7_puts_17 : decode cX7_puts 17 = .ok (.iload_n 1, 1) := dk_27 (dk_at dksX7_puts_0 17 rfl rfl)
theorem dX7_puts_18 : decode cX7_puts 18 = .ok (.lload_n 2, 1) := dk_32 (dk_at dksX7_puts_0 18 rfl rfl)
theorem dX7_puts_19 : decode cX7_puts 19 = .ok (.l2i, 1) := dk_136 (dk_at dksX7_puts_0 19 rfl rfl)
theorem dX7_puts_20 : decode cX7_puts 20 = .ok (.i2b, 1) := dk_145 (dk_at dksX7_puts_0 20 rfl rfl)
theorem dX7_puts_21 : decode cX7_puts 21 = .ok (.bastore, 1) := dk_84 (dk_at dksX7_puts_0 21 rfl rfl)
theorem dX7_puts_22 : decode cX7_puts 22 = .ok (.goto 62, 3) := dk_167 0 62 (dk_at dksX7_puts_1 0 rfl rfl)
theorem dX7_puts_25 : decode cX7_puts 25 = .ok (.aload_n 0, 1) := dk_42 (dk_at dksX7_puts_1 3 rfl rfl)
theorem dX7_puts_26 : decode cX7_puts 26 = .ok (.getfield 7, 3) := dk_180 0 7 (dk_at dksX7_puts_1 4 rfl rfl)
theorem dX7_puts_29 : decode cX7_puts 29 = .ok (.instanceof 17, 3) := dk_193 0 17 (dk_at dksX7_puts_1 7 rfl rfl)
theorem dX7_puts_32 : decode cX7_puts 32 = .ok (.ifCond .eq 18, 3) := dk_153 0 18 (dk_at dksX7_puts_1 10 rfl rfl)
theorem dX7_puts_35 : decode cX7_puts 35 = .ok (.aload_n 0, 1) := dk_42 (dk_at dksX7_puts_1 13 rfl rfl)
theorem dX7_puts_36 : decode cX7_puts 36 = .ok (.getfield 7, 3) := dk_180 0 7 (dk_at dksX7_puts_1 14 rfl rfl)
theorem dX7_puts_39 : decode cX7_puts 39 = .ok (.checkcast 17, 3) := dk_192 0 17 (dk_at dksX7_puts_1 17 rfl rfl)
theorem dX7_puts_42 : decode cX7_puts 42 = .ok (.iload_n 1, 1) := dk_27 (dk_at dksX7_puts_1 20 rfl rfl)
theorem dX7_puts_43 : decode cX7_puts 43 = .ok (.lload_n 2, 1) := dk_32 (dk_at dksX7_puts_1 21 rfl rfl)
theorem dX7_puts_44 : decode cX7_puts 44 = .ok (.l2i, 1) := dk_136 (dk_at dksX7_puts_1 22 rfl rfl)
theorem dX7_puts_45 : decode cX7_puts 45 = .ok (.i2s, 1) := dk_147 (dk_at dksX7_puts_1 23 rfl rfl)
theorem dX7_puts_46 : decode cX7_puts 46 = .ok (.sastore, 1) := dk_86 (dk_at dksX7_puts_2 0 rfl rfl)
theorem dX7_puts_47 : decode cX7_puts 47 = .ok (.goto 37, 3) := dk_167 0 37 (dk_at dksX7_puts_2 1 rfl rfl)
theorem dX7_puts_50 : decode cX7_puts 50 = .ok (.aload_n 0, 1) := dk_42 (dk_at dksX7_puts_2 4 rfl rfl)
theorem dX7_puts_51 : decode cX7_puts 51 = .ok (.getfield 7, 3) := dk_180 0 7 (dk_at dksX7_puts_2 5 rfl rfl)
theorem dX7_puts_54 : decode cX7_puts 54 = .ok (.instanceof 19, 3) := dk_193 0 19 (dk_at dksX7_puts_2 8 rfl rfl)
theorem dX7_puts_57 : decode cX7_puts 57 = .ok (.ifCond .eq 17, 3) := dk_153 0 17 (dk_at dksX7_puts_2 11 rfl rfl)
theorem dX7_puts_60 : decode cX7_puts 60 = .ok (.aload_n 0, 1) := dk_42 (dk_at dksX7_puts_2 14 rfl rfl)
theorem dX7_puts_61 : decode cX7_puts 61 = .ok (.getfield 7, 3) := dk_180 0 7 (dk_at dksX7_puts_2 15 rfl rfl)
theorem dX7_puts_64 : decode cX7_puts 64 = .ok (.checkcast 19, 3) := dk_192 0 19 (dk_at dksX7_puts_2 18 rfl rfl)
theorem dX7_puts_67 : decode cX7_puts 67 = .ok (.iload_n 1, 1) := dk_27 (dk_at dksX7_puts_2 21 rfl rfl)
theorem dX7_puts_68 : decode cX7_puts 68 = .ok (.lload_n 2, 1) := dk_32 (dk_at dksX7_puts_2 22 rfl rfl)
theorem dX7_puts_69 : decode cX7_puts 69 = .ok (.l2i, 1) := dk_136 (dk_at dksX7_puts_2 23 rfl rfl)
theorem dX7_puts_70 : decode cX7_puts 70 = .ok (.iastore, 1) := dk_79 (dk_at dksX7_puts_3 0 rfl rfl)
theorem dX7_puts_71 : decode cX7_puts 71 = .ok (.goto 13, 3) := dk_167 0 13 (dk_at dksX7_puts_3 1 rfl rfl)
theorem dX7_puts_74 : decode cX7_puts 74 = .ok (.aload_n 0, 1) := dk_42 (dk_at dksX7_puts_3 4 rfl rfl)
theorem dX7_puts_75 : decode cX7_puts 75 = .ok (.getfield 7, 3) := dk_180 0 7 (dk_at dksX7_puts_3 5 rfl rfl)
theorem dX7_puts_78 : decode cX7_puts 78 = .ok (.checkcast 21, 3) := dk_192 0 21 (dk_at dksX7_puts_3 8 rfl rfl)
theorem dX7_puts_81 : decode cX7_puts 81 = .ok (.iload_n 1, 1) := dk_27 (dk_at dksX7_puts_3 11 rfl rfl)
theorem dX7_puts_82 : decode cX7_puts 82 = .ok (.lload_n 2, 1) := dk_32 (dk_at dksX7_puts_3 12 rfl rfl)
theorem dX7_puts_83 : decode cX7_puts 83 = .ok (.lastore, 1) := dk_80 (dk_at dksX7_puts_3 13 rfl rfl)
theorem dX7_puts_84 : decode cX7_puts 84 = .ok (.return_, 1) := dk_177 (dk_at dksX7_puts_3 14 rfl rfl)
theorem q139 : (Jvm.Cond.initialized "StoneYear$Numbers") ∈ lw_all := lw_g (lw_at lw_m1 11 rfl) rfl
theorem q408 : (Jvm.Cond.instantiable "StoneYear$Numbers" (1 : Nat)) ∈ lw_all := lw_g (lw_at lw_m2 40 rfl) rfl
theorem q410 : (Jvm.Cond.instanceMethod ({ cls := "StoneYear$Numbers", name := "<init>", desc := "()V" } : Jvm.MethodName)) ∈ lw_all := lw_g (lw_at lw_m2 42 rfl) rfl
theorem q411 : (Jvm.Cond.code ({ cls := "StoneYear$Numbers", name := "<init>", desc := "()V" } : Jvm.MethodName) prog_10_method_1_code (1 : Nat) (Option.none : Option Jvm.ClassFile.FieldType)) ∈ lw_all := lw_g (lw_at lw_m2 43 rfl) rfl
theorem q412 : (Jvm.Cond.methodLink "StoneYear$Numbers" (1 : Nat) ({ cls := "java/lang/Object", name := "<init>", desc := "()V" } : Jvm.MethodName)) ∈ lw_all := lw_g (lw_at lw_m2 44 rfl) rfl
theorem q413 : (Jvm.Cond.fieldLink "StoneYear$Numbers" (7 : Nat) "StoneYear$Numbers" "held" "Ljava/lang/Object;") ∈ lw_all := lw_g (lw_at lw_m2 45 rfl) rfl
theorem q415 : (Jvm.Cond.lays "StoneYear$Numbers" "StoneYear$Numbers" "held" "Ljava/lang/Object;") ∈ lw_all := lw_g (lw_at lw_m2 47 rfl) rfl
theorem q416 : (Jvm.Cond.soleField "StoneYear$Numbers" "held") ∈ lw_all := lw_g (lw_at lw_m2 48 rfl) rfl
theorem q417 : (Jvm.Cond.superclass "StoneYear$Numbers" "java/lang/Object") ∈ lw_all := lw_g (lw_at lw_m2 49 rfl) rfl
theorem q755 : (Jvm.Cond.selects "StoneYear$Numbers" ({ cls := "java/lang/Object", name := "getClass", desc := "()Ljava/lang/Class;" } : Jvm.MethodName) ({ cls := "java/lang/Object", name := "getClass", desc := "()Ljava/lang/Class;" } : Jvm.MethodName)) ∈ lw_all := lw_g (lw_at lw_m3 147 rfl) rfl
theorem q1193 : (Jvm.Cond.instanceMethod ({ cls := "StoneYear$Numbers", name := "many", desc := "()I" } : Jvm.MethodName)) ∈ lw_all := lw_g (lw_at lw_m5 105 rfl) rfl
theorem q1194 : (Jvm.Cond.selects "StoneYear$Numbers" ({ cls := "StoneYear$Numbers", name := "many", desc := "()I" } : Jvm.MethodName) ({ cls := "StoneYear$Numbers", name := "many", desc := "()I" } : Jvm.MethodName)) ∈ lw_all := lw_g (lw_at lw_m5 106 rfl) rfl
theorem q1195 : (Jvm.Cond.code ({ cls := "StoneYear$Numbers", name := "many", desc := "()I" } : Jvm.MethodName) prog_10_method_3_code (1 : Nat) (Option.some Jvm.ClassFile.FieldType.int)) ∈ lw_all := lw_g (lw_at lw_m5 107 rfl) rfl
theorem q1196 : (Jvm.Cond.classLink "StoneYear$Numbers" (15 : Nat) "[B") ∈ lw_all := lw_g (lw_at lw_m5 108 rfl) rfl
theorem q1197 : (Jvm.Cond.classLink "StoneYear$Numbers" (17 : Nat) "[S") ∈ lw_all := lw_g (lw_at lw_m5 109 rfl) rfl
theorem q1198 : (Jvm.Cond.classLink "StoneYear$Numbers" (19 : Nat) "[I") ∈ lw_all := lw_g (lw_at lw_m5 110 rfl) rfl
theorem q1199 : (Jvm.Cond.classLink "StoneYear$Numbers" (21 : Nat) "[J") ∈ lw_all := lw_g (lw_at lw_m5 111 rfl) rfl
theorem q1201 : (Jvm.Cond.instanceMethod ({ cls := "StoneYear$Numbers", name := "number", desc := "(I)J" } : Jvm.MethodName)) ∈ lw_all := lw_g (lw_at lw_m5 113 rfl) rfl
theorem q1202 : (Jvm.Cond.selects "StoneYear$Numbers" ({ cls := "StoneYear$Numbers", name := "number", desc := "(I)J" } : Jvm.MethodName) ({ cls := "StoneYear$Numbers", name := "number", desc := "(I)J" } : Jvm.MethodName)) ∈ lw_all := lw_g (lw_at lw_m5 114 rfl) rfl
theorem q1203 : (Jvm.Cond.code ({ cls := "StoneYear$Numbers", name := "number", desc := "(I)J" } : Jvm.MethodName) prog_10_method_4_code (2 : Nat) (Option.some Jvm.ClassFile.FieldType.long)) ∈ lw_all := lw_g (lw_at lw_m5 115 rfl) rfl
theorem q1456 : (Jvm.Cond.instanceMethod ({ cls := "StoneYear$Numbers", name := "begins", desc := "(II)Z" } : Jvm.MethodName)) ∈ lw_all := lw_g (lw_at lw_m6 128 rfl) rfl
theorem q1457 : (Jvm.Cond.selects "StoneYear$Numbers" ({ cls := "StoneYear$Numbers", name := "begins", desc := "(II)Z" } : Jvm.MethodName) ({ cls := "StoneYear$Numbers", name := "begins", desc := "(II)Z" } : Jvm.MethodName)) ∈ lw_all := lw_g (lw_at lw_m6 129 rfl) rfl
theorem q1458 : (Jvm.Cond.codeWith ({ cls := "StoneYear$Numbers", name := "begins", desc := "(II)Z" } : Jvm.MethodName) prog_10_method_2_code (4 : Nat) (Option.some Jvm.ClassFile.FieldType.boolean) [((0 : Nat), (66 : Nat), (67 : Nat), (13 : Nat))]) ∈ lw_all := lw_g (lw_at lw_m6 130 rfl) rfl
theorem q1459 : (Jvm.Cond.classLink "StoneYear$Numbers" (13 : Nat) "java/lang/NegativeArraySizeException") ∈ lw_all := lw_g (lw_at lw_m6 131 rfl) rfl
theorem q1593 : (Jvm.Cond.instanceMethod ({ cls := "StoneYear$Numbers", name := "puts", desc := "(IJ)V" } : Jvm.MethodName)) ∈ lw_all := lw_g (lw_at lw_m7 25 rfl) rfl
theorem q1594 : (Jvm.Cond.selects "StoneYear$Numbers" ({ cls := "StoneYear$Numbers", name := "puts", desc := "(IJ)V" } : Jvm.MethodName) ({ cls := "StoneYear$Numbers", name := "puts", desc := "(IJ)V" } : Jvm.MethodName)) ∈ lw_all := lw_g (lw_at lw_m7 26 rfl) rfl
theorem q1595 : (Jvm.Cond.code ({ cls := "StoneYear$Numbers", name := "puts", desc := "(IJ)V" } : Jvm.MethodName) prog_10_method_5_code (4 : Nat) (Option.none : Option Jvm.ClassFile.FieldType)) ∈ lw_all := lw_g (lw_at lw_m7 27 rfl) rfl
theorem q2235 : (Jvm.Cond.castable "StoneYear$Numbers" "java/lang/Object") ∈ lw_tbl := lw_at lw_m9 187 rfl
theorem in_X7 : ∀ w ∈ wsX70, w ∈ lw_all := lw_in wsX70 [415] (by decide +kernel) (by decide +kernel)
/-! StoneYear$Reader -/
set_option maxRecDepth 100000
def RX9 : String := "StoneYear$Reader"
def TX9 : u_T := fun k => match k with
  | 0 => ("StoneYear$Reader", "size", "I", true)
  | 1 => ("StoneYear$Reader", "town", "LStoneYear$Town;", true)
  | 2 => ("StoneYear$Reader", "bars", "Ljava/util/ArrayList;", true)
  | 3 => ("StoneYear$Reader", "at", "I", false)
  | 4 => ("StoneYear$Reader", "begin", "I", false)
  | 5 => ("StoneYear$Reader", "token", "I", false)
  | 6 => ("StoneYear$Reader", "value", "I", false)
  | 7 => ("StoneYear$Reader", "open", "I", false)
  | 8 => ("StoneYear$Reader", "fault", "I", false)
  | 9 => ("StoneYear$Reader", "place", "I", false)
  | _ => ("StoneYear$Reader", "this$0", "LStoneYear;", true)
def tyX9 : Nat → FieldType := fun k => match k with
  | 0 => .int
  | 1 => .object "StoneYear$Town"
  | 2 => .object "java/util/ArrayList"
  | 3 => .int
  | 4 => .int
  | 5 => .int
  | 6 => .int
  | 7 => .int
  | 8 => .int
  | 9 => .int
  | _ => .object "StoneYear"
abbrev wsX90 : List Cond := u_ws RX9 TX9 11
theorem nmX9 : ∀ a, a < 11 → ∀ b, b < 11 → a ≠ b → (TX9 a).2.1 ≠ (TX9 b).2.1 := by decide +kernel
theorem tyX9_ok : ∀ k, k < 11 → parseFieldDescriptor (TX9 k).2.2.1 = some (tyX9 k) := by decide +kernel
abbrev cX9_init : ByteArray := prog_11_method_1_code
def yX9_init : MethodName := ⟨RX9, "<init>", "(LStoneYear;I)V"⟩
def dkwX9_init_1 : List UInt8 := [89, 5, 183, 0, 24, 181, 0, 27, 42, 2, 181, 0, 31, 42, 28, 181, 0, 35, 177]
abbrev dktX9_init_1 : List UInt8 := dkwX9_init_1 ++ []
def dkwX9_init_0 : List UInt8 := [42, 43, 181, 0, 3, 42, 183, 0, 9, 42, 187, 0, 15, 89, 183, 0, 17, 181, 0, 18, 42, 187, 0, 22]
abbrev dktX9_init_0 : List UInt8 := dkwX9_init_0 ++ dktX9_init_1
theorem dksX9_init_0 : cX9_init.data.toList.drop 0 = dktX9_init_0 := by decide +kernel
theorem dksX9_init_1 : cX9_init.data.toList.drop 24 = dktX9_init_1 := dk_seg dksX9_init_0 24 rfl rfl
theorem dX9_init_0 : decode cX9_init 0 = .ok (.aload_n 0, 1) := dk_42 (dk_at dksX9_init_0 0 rfl rfl)
theorem dX9_init_1 : decode cX9_init 1 = .ok (.aload_n 1, 1) := dk_43 (dk_at dksX9_init_0 1 rfl rfl)
theorem dX9_init_2 : decode cX9_init 2 = .ok (.putfield 3, 3) := dk_181 0 3 (dk_at dksX9_init_0 2 rfl rfl)
theorem dX9_init_5 : decode cX9_init 5 = .ok (.aload_n 0, 1) := dk_42 (dk_at dksX9_init_0 5 rfl rfl)
theorem dX9_init_6 : decode cX9_init 6 = .ok (.invokespecial 9, 3) := dk_183 0 9 (dk_at dksX9_init_0 6 rfl rfl)
theorem dX9_init_9 : decode cX9_init 9 = .ok (.aload_n 0, 1) := dk_42 (dk_at dksX9_init_0 9 rfl rfl)
theorem dX9_init_10 : decode cX9_init 10 = .ok (.new 15, 3) := dk_187 0 15 (dk_at dksX9_init_0 10 rfl rfl)
theorem dX9_init_13 : decode cX9_init 13 = .ok (.dup, 1) := dk_89 (dk_at dksX9_init_0 13 rfl rfl)
theorem dX9_init_14 : decode cX9_init 14 = .ok (.invokespecial 17, 3) := dk_183 0 17 (dk_at dksX9_init_0 14 rfl rfl)
theorem dX9_init_17 : decode cX9_init 17 = .ok (.putfield 18, 3) := dk_181 0 18 (dk_at dksX9_init_0 17 rfl rfl)
theorem dX9_init_20 : decode cX9_init 20 = .ok (.aload_n 0, 1) := dk_42 (dk_at dksX9_init_0 20 rfl rfl)
theorem dX9_init_21 : decode cX9_init 21 = .ok (.new 22, 3) := dk_187 0 22 (dk_at dksX9_init_0 21 rfl rfl)
theorem dX9_init_24 : decode cX9_init 24 = .ok (.dup, 1) := dk_89 (dk_at dksX9_init_1 0 rfl rfl)
theorem dX9_init_25 : decode cX9_init 25 = .ok (.iconst 2, 1) := dk_5 (dk_at dksX9_init_1 1 rfl rfl)
theorem dX9_init_26 : decode cX9_init 26 = .ok (.invokespecial 24, 3) := dk_183 0 24 (dk_at dksX9_init_1 2 rfl rfl)
theorem dX9_init_29 : decode cX9_init 29 = .ok (.putfield 27, 3) := dk_181 0 27 (dk_at dksX9_init_1 5 rfl rfl)
theorem dX9_init_32 : decode cX9_init 32 = .ok (.aload_n 0, 1) := dk_42 (dk_at dksX9_init_1 8 rfl rfl)
theorem dX9_init_33 : decode cX9_init 33 = .ok (.iconst (-1), 1) := dk_2 (dk_at dksX9_init_1 9 rfl rfl)
theorem dX9_init_34 : decode cX9_init 34 = .ok (.putfield 31, 3) := dk_181 0 31 (dk_at dksX9_init_1 10 rfl rfl)
theorem dX9_init_37 : decode cX9_init 37 = .ok (.aload_n 0, 1) := dk_42 (dk_at dksX9_init_1 13 rfl rfl)
theorem dX9_init_38 : decode cX9_init 38 = .ok (.iload_n 2, 1) := dk_28 (dk_at dksX9_init_1 14 rfl rfl)
theorem dX9_init_39 : decode cX9_init 39 = .ok (.putfield 35, 3) := dk_181 0 35 (dk_at dksX9_init_1 15 rfl rfl)
theorem dX9_init_42 : decode cX9_init 42 = .ok (.return_, 1) := dk_177 (dk_at dksX9_init_1 18 rfl rfl)
abbrev cX9_town : ByteArray := prog_11_method_14_code
def yX9_town : MethodName := ⟨RX9, "town", "()V"⟩
def dkwX9_town_1 : List UInt8 := [182, 0, 110, 42, 180, 0, 18, 89, 180, 0, 113, 4, 96, 181, 0, 113, 167, 255, 221, 177]
abbrev dktX9_town_1 : List UInt8 := dkwX9_town_1 ++ []
def dkwX9_town_0 : List UInt8 := [42, 182, 0, 94, 42, 180, 0, 77, 154, 0, 34, 42, 180, 0, 64, 153, 0, 27, 42, 182, 0, 107, 42]
abbrev dktX9_town_0 : List UInt8 := dkwX9_town_0 ++ dktX9_town_1
theorem dksX9_town_0 : cX9_town.data.toList.drop 0 = dktX9_town_0 := by decide +kernel
theorem dksX9_town_1 : cX9_town.data.toList.drop 23 = dktX9_town_1 := dk_seg dksX9_town_0 23 rfl rfl
theorem dX9_town_0 : decode cX9_town 0 = .ok (.aload_n 0, 1) := dk_42 (dk_at dksX9_town_0 0 rfl rfl)
theorem dX9_town_1 : decode cX9_town 1 = .ok (.invokevirtual 94, 3) := dk_182 0 94 (dk_at dksX9_town_0 1 rfl rfl)
theorem dX9_town_4 : decode cX9_town 4 = .ok (.aload_n 0, 1) := dk_42 (dk_at dksX9_town_0 4 rfl rfl)
theorem dX9_town_5 : decode cX9_town 5 = .ok (.getfield 77, 3) := dk_180 0 77 (dk_at dksX9_town_0 5 rfl rfl)
theorem dX9_town_8 : decode cX9_town 8 = .ok (.ifCond .ne 34, 3) := dk_154 0 34 (dk_at dksX9_town_0 8 rfl rfl)
theorem dX9_town_11 : decode cX9_town 11 = .ok (.aload_n 0, 1) := dk_42 (dk_at dksX9_town_0 11 rfl rfl)
theorem dX9_town_12 : decode cX9_town 12 = .ok (.getfield 64, 3) := dk_180 0 64 (dk_at dksX9_town_0 12 rfl rfl)
theorem dX9_town_15 : decode cX9_town 15 = .ok (.ifCond .eq 27, 3) := dk_153 0 27 (dk_at dksX9_town_0 15 rfl rfl)
theorem dX9_town_18 : decode cX9_town 18 = .ok (.aload_n 0, 1) := dk_42 (dk_at dksX9_town_0 18 rfl rfl)
theorem dX9_town_19 : decode cX9_town 19 = .ok (.invokevirtual 107, 3) := dk_182 0 107 (dk_at dksX9_town_0 19 rfl rfl)
theorem dX9_town_22 : decode cX9_town 22 = .ok (.aload_n 0, 1) := dk_42 (dk_at dksX9_town_0 22 rfl rfl)
theorem dX9_town_23 : decode cX9_town 23 = .ok (.invokevirtual 110, 3) := dk_182 0 110 (dk_at dksX9_town_1 0 rfl rfl)
theorem dX9_town_26 : decode cX9_town 26 = .ok (.aload_n 0, 1) := dk_42 (dk_at dksX9_town_1 3 rfl rfl)
theorem dX9_town_27 : decode cX9_town 27 = .ok (.getfield 18, 3) := dk_180 0 18 (dk_at dksX9_town_1 4 rfl rfl)
theorem dX9_town_30 : decode cX9_town 30 = .ok (.dup, 1) := dk_89 (dk_at dksX9_town_1 7 rfl rfl)
theorem dX9_town_31 : decode cX9_town 31 = .ok (.getfield 113, 3) := dk_180 0 113 (dk_at dksX9_town_1 8 rfl rfl)
theorem dX9_town_34 : decode cX9_town 34 = .ok (.iconst 1, 1) := dk_4 (dk_at dksX9_town_1 11 rfl rfl)
theorem dX9_town_35 : decode cX9_town 35 = .ok (.iadd, 1) := dk_96 (dk_at dksX9_town_1 12 rfl rfl)
theorem dX9_town_36 : decode cX9_town 36 = .ok (.putfield 113, 3) := dk_181 0 113 (dk_at dksX9_town_1 13 rfl rfl)
theorem dX9_town_39 : decode cX9_town 39 = .ok (.goto (-35), 3) := dk_167 255 221 (dk_at dksX9_town_1 16 rfl rfl)
theorem dX9_town_42 : decode cX9_town 42 = .ok (.return_, 1) := dk_177 (dk_at dksX9_town_1 19 rfl rfl)
abbrev cX9_next : ByteArray := prog_11_method_5_code
def yX9_next : MethodName := ⟨RX9, "next", "()V"⟩
def dkwX9_next_11 : List UInt8 := [27, 167, 0, 4, 6, 181, 0, 64, 177]
abbrev dktX9_next_11 : List UInt8 := dkwX9_next_11 ++ []
def dkwX9_next_10 : List UInt8 := [4, 96, 181, 0, 58, 42, 27, 16, 59, 159, 0, 15, 27, 16, 40, 159, 0, 9, 27, 16, 41, 160, 0, 7]
abbrev dktX9_next_10 : List UInt8 := dkwX9_next_10 ++ dktX9_next_11
def dkwX9_next_9 : List UInt8 := [167, 0, 4, 5, 181, 0, 64, 167, 0, 49, 42, 42, 180, 0, 58, 182, 0, 42, 60, 42, 89, 180, 0, 58]
abbrev dktX9_next_9 : List UInt8 := dkwX9_next_9 ++ dktX9_next_10
def dkwX9_next_8 : List UInt8 := [4, 96, 181, 0, 58, 167, 255, 199, 42, 42, 180, 0, 58, 42, 180, 0, 61, 100, 6, 164, 0, 7, 6]
abbrev dktX9_next_8 : List UInt8 := dkwX9_next_8 ++ dktX9_next_9
def dkwX9_next_7 : List UInt8 := [180, 0, 74, 104, 42, 42, 180, 0, 58, 182, 0, 42, 96, 16, 48, 100, 181, 0, 74, 42, 89, 180, 0, 58]
abbrev dktX9_next_7 : List UInt8 := dkwX9_next_7 ++ dktX9_next_8
def dkwX9_next_6 : List UInt8 := [182, 0, 71, 153, 0, 52, 42, 180, 0, 58, 42, 180, 0, 61, 100, 6, 162, 0, 26, 42, 16, 10, 42]
abbrev dktX9_next_6 : List UInt8 := dkwX9_next_6 ++ dktX9_next_7
def dkwX9_next_5 : List UInt8 := [167, 0, 150, 42, 42, 180, 0, 58, 182, 0, 71, 153, 0, 93, 42, 3, 181, 0, 74, 42, 42, 180, 0, 58]
abbrev dktX9_next_5 : List UInt8 := dkwX9_next_5 ++ dktX9_next_6
def dkwX9_next_4 : List UInt8 := [182, 0, 67, 153, 0, 16, 42, 89, 180, 0, 58, 4, 96, 181, 0, 58, 167, 255, 235, 42, 4, 181, 0, 64]
abbrev dktX9_next_4 : List UInt8 := dkwX9_next_4 ++ dktX9_next_5
def dkwX9_next_3 : List UInt8 := [181, 0, 64, 167, 0, 193, 42, 42, 180, 0, 58, 182, 0, 67, 153, 0, 35, 42, 42, 180, 0, 58]
abbrev dktX9_next_3 : List UInt8 := dkwX9_next_3 ++ dktX9_next_4
def dkwX9_next_2 : List UInt8 := [167, 255, 209, 42, 42, 180, 0, 58, 181, 0, 61, 42, 180, 0, 58, 42, 180, 0, 35, 161, 0, 11, 42, 3]
abbrev dktX9_next_2 : List UInt8 := dkwX9_next_2 ++ dktX9_next_3
def dkwX9_next_1 : List UInt8 := [42, 42, 180, 0, 58, 182, 0, 42, 16, 10, 160, 0, 16, 42, 89, 180, 0, 58, 4, 96, 181, 0, 58]
abbrev dktX9_next_1 : List UInt8 := dkwX9_next_1 ++ dktX9_next_2
def dkwX9_next_0 : List UInt8 := [42, 180, 0, 58, 42, 180, 0, 35, 162, 0, 42, 42, 42, 180, 0, 58, 182, 0, 42, 16, 32, 159, 0, 16]
abbrev dktX9_next_0 : List UInt8 := dkwX9_next_0 ++ dktX9_next_1
theorem dksX9_next_0 : cX9_next.data.toList.drop 0 = dktX9_next_0 := by decide +kernel
theorem dksX9_next_1 : cX9_next.data.toList.drop 24 = dktX9_next_1 := dk_seg dksX9_next_0 24 rfl rfl
theorem dksX9_next_2 : cX9_next.data.toList.drop 47 = dktX9_next_2 := dk_seg dksX9_next_1 23 rfl rfl
theorem dksX9_next_3 : cX9_next.data.toList.drop 71 = dktX9_next_3 := dk_seg dksX9_next_2 24 rfl rfl
theorem dksX9_next_4 : cX9_next.data.toList.drop 93 = dktX9_next_4 := dk_seg dksX9_next_3 22 rfl rfl
theorem dksX9_next_5 : cX9_next.data.toList.drop 117 = dktX9_next_5 := dk_seg dksX9_next_4 24 rfl rfl
theorem dksX9_next_6 : cX9_next.data.toList.drop 141 = dktX9_next_6 := dk_seg dksX9_next_5 24 rfl rfl
theorem dksX9_next_7 : cX9_next.data.toList.drop 164 = dktX9_next_7 := dk_seg dksX9_next_6 23 rfl rfl
theorem dksX9_next_8 : cX9_next.data.toList.drop 188 = dktX9_next_8 := dk_seg dksX9_next_7 24 rfl rfl
theorem dksX9_next_9 : cX9_next.data.toList.drop 211 = dktX9_next_9 := dk_seg dksX9_next_8 23 rfl rfl
theorem dksX9_next_10 : cX9_next.data.toList.drop 235 = dktX9_next_10 := dk_seg dksX9_next_9 24 rfl rfl
theorem dksX9_next_11 : cX9_next.data.toList.drop 259 = dktX9_next_11 := dk_seg dksX9_next_10 24 rfl rfl
theorem dX9_next_0 : decode cX9_next 0 = .ok (.aload_n 0, 1) := dk_42 (dk_at dksX9_next_0 0 rfl rfl)
theorem dX9_next_1 : decode cX9_next 1 = .ok (.getfield 58, 3) := dk_180 0 58 (dk_at dksX9_next_0 1 rfl rfl)
theorem dX9_next_4 : decode cX9_next 4 = .ok (.aload_n 0, 1) := dk_42 (dk_at dksX9_next_0 4 rfl rfl)
theorem dX9_next_5 : decode cX9_next 5 = .ok (.getfield 35, 3) := dk_180 0 35 (dk_at dksX9_next_0 5 rfl rfl)
theorem dX9_next_8 : decode cX9_next 8 = .ok (.if_icmp .ge 42, 3) := dk_162 0 42 (dk_at dksX9_next_0 8 rfl rfl)
theorem dX9_next_11 : decode cX9_next 11 = .ok (.aload_n 0, 1) := dk_42 (dk_at dksX9_next_0 11 rfl rfl)
theorem dX9_next_12 : decode cX9_next 12 = .ok (.aload_n 0, 1) := dk_42 (dk_at dksX9_next_0 12 rfl rfl)
theorem dX9_next_13 : decode cX9_next 13 = .ok (.getfield 58, 3) := dk_180 0 58 (dk_at dksX9_next_0 13 rfl rfl)
theorem dX9_next_16 : decode cX9_next 16 = .ok (.invokevirtual 42, 3) := dk_182 0 42 (dk_at dksX9_next_0 16 rfl rfl)
theorem dX9_next_19 : decode cX9_next 19 = .ok (.bipush 32, 2) := dk_16 32 (dk_at dksX9_next_0 19 rfl rfl)
theorem dX9_next_21 : decode cX9_next 21 = .ok (.if_icmp .eq 16, 3) := dk_159 0 16 (dk_at dksX9_next_0 21 rfl rfl)
theorem dX9_next_24 : decode cX9_next 24 = .ok (.aload_n 0, 1) := dk_42 (dk_at dksX9_next_1 0 rfl rfl)
theorem dX9_next_25 : decode cX9_next 25 = .ok (.aload_n 0, 1) := dk_42 (dk_at dksX9_next_1 1 rfl rfl)
theorem dX9_next_26 : decode cX9_next 26 = .ok (.getfield 58, 3) := dk_180 0 58 (dk_at dksX9_next_1 2 rfl rfl)
theorem dX9_next_29 : decode cX9_next 29 = .ok (.invokevirtual 42, 3) := dk_182 0 42 (dk_at dksX9_next_1 5 rfl rfl)
theorem dX9_next_32 : decode cX9_next 32 = .ok (.bipush 10, 2) := dk_16 10 (dk_at dksX9_next_1 8 rfl rfl)
theorem dX9_next_34 : decode cX9_next 34 = .ok (.if_icmp .ne 16, 3) := dk_160 0 16 (dk_at dksX9_next_1 10 rfl rfl)
theorem dX9_next_37 : decode cX9_next 37 = .ok (.aload_n 0, 1) := dk_42 (dk_at dksX9_next_1 13 rfl rfl)
theorem dX9_next_38 : decode cX9_next 38 = .ok (.dup, 1) := dk_89 (dk_at dksX9_next_1 14 rfl rfl)
theorem dX9_next_39 : decode cX9_next 39 = .ok (.getfield 58, 3) := dk_180 0 58 (dk_at dksX9_next_1 15 rfl rfl)
theorem dX9_next_42 : decode cX9_next 42 = .ok (.iconst 1, 1) := dk_4 (dk_at dksX9_next_1 18 rfl rfl)
theorem dX9_next_43 : decode cX9_next 43 = .ok (.iadd, 1) := dk_96 (dk_at dksX9_next_1 19 rfl rfl)
theorem dX9_next_44 : decode cX9_next 44 = .ok (.putfield 58, 3) := dk_181 0 58 (dk_at dksX9_next_1 20 rfl rfl)
theorem dX9_next_47 : decode cX9_next 47 = .ok (.goto (-47), 3) := dk_167 255 209 (dk_at dksX9_next_2 0 rfl rfl)
theorem dX9_next_50 : decode cX9_next 50 = .ok (.aload_n 0, 1) := dk_42 (dk_at dksX9_next_2 3 rfl rfl)
theorem dX9_next_51 : decode cX9_next 51 = .ok (.aload_n 0, 1) := dk_42 (dk_at dksX9_next_2 4 rfl rfl)
theorem dX9_next_52 : decode cX9_next 52 = .ok (.getfield 58, 3) := dk_180 0 58 (dk_at dksX9_next_2 5 rfl rfl)
theorem dX9_next_55 : decode cX9_next 55 = .ok (.putfield 61, 3) := dk_181 0 61 (dk_at dksX9_next_2 8 rfl rfl)
theorem dX9_next_58 : decode cX9_next 58 = .ok (.aload_n 0, 1) := dk_42 (dk_at dksX9_next_2 11 rfl rfl)
theorem dX9_next_59 : decode cX9_next 59 = .ok (.getfield 58, 3) := dk_180 0 58 (dk_at dksX9_next_2 12 rfl rfl)
theorem dX9_next_62 : decode cX9_next 62 = .ok (.aload_n 0, 1) := dk_42 (dk_at dksX9_next_2 15 rfl rfl)
theorem dX9_next_63 : decode cX9_next 63 = .ok (.getfield 35, 3) := dk_180 0 35 (dk_at dksX9_next_2 16 rfl rfl)
theorem dX9_next_66 : decode cX9_next 66 = .ok (.if_icmp .lt 11, 3) := dk_161 0 11 (dk_at dksX9_next_2 19 rfl rfl)
theorem dX9_next_69 : decode cX9_next 69 = .ok (.aload_n 0, 1) := dk_42 (dk_at dksX9_next_2 22 rfl rfl)
theorem dX9_next_70 : decode cX9_next 70 = .ok (.iconst 0, 1) := dk_3 (dk_at dksX9_next_2 23 rfl rfl)
theorem dX9_next_71 : decode cX9_next 71 = .ok (.putfield 64, 3) := dk_181 0 64 (dk_at dksX9_next_3 0 rfl rfl)
theorem dX9_next_74 : decode cX9_next 74 = .ok (.goto 193, 3) := dk_167 0 193 (dk_at dksX9_next_3 3 rfl rfl)
theorem dX9_next_77 : decode cX9_next 77 = .ok (.aload_n 0, 1) := dk_42 (dk_at dksX9_next_3 6 rfl rfl)
theorem dX9_next_78 : decode cX9_next 78 = .ok (.aload_n 0, 1) := dk_42 (dk_at dksX9_next_3 7 rfl rfl)
theorem dX9_next_79 : decode cX9_next 79 = .ok (.getfield 58, 3) := dk_180 0 58 (dk_at dksX9_next_3 8 rfl rfl)
theorem dX9_next_82 : decode cX9_next 82 = .ok (.invokevirtual 67, 3) := dk_182 0 67 (dk_at dksX9_next_3 11 rfl rfl)
theorem dX9_next_85 : decode cX9_next 85 = .ok (.ifCond .eq 35, 3) := dk_153 0 35 (dk_at dksX9_next_3 14 rfl rfl)
theorem dX9_next_88 : decode cX9_next 88 = .ok (.aload_n 0, 1) := dk_42 (dk_at dksX9_next_3 17 rfl rfl)
theorem dX9_next_89 : decode cX9_next 89 = .ok (.aload_n 0, 1) := dk_42 (dk_at dksX9_next_3 18 rfl rfl)
theorem dX9_next_90 : decode cX9_next 90 = .ok (.getfield 58, 3) := dk_180 0 58 (dk_at dksX9_next_3 19 rfl rfl)
theorem dX9_next_93 : decode cX9_next 93 = .ok (.invokevirtual 67, 3) := dk_182 0 67 (dk_at dksX9_next_4 0 rfl rfl)
theorem dX9_next_96 : decode cX9_next 96 = .ok (.ifCond .eq 16, 3) := dk_153 0 16 (dk_at dksX9_next_4 3 rfl rfl)
theorem dX9_next_99 : decode cX9_next 99 = .ok (.aload_n 0, 1) := dk_42 (dk_at dksX9_next_4 6 rfl rfl)
theorem dX9_next_100 : decode cX9_next 100 = .ok (.dup, 1) := dk_89 (dk_at dksX9_next_4 7 rfl rfl)
theorem dX9_next_101 : decode cX9_next 101 = .ok (.getfield 58, 3) := dk_180 0 58 (dk_at dksX9_next_4 8 rfl rfl)
theorem dX9_next_104 : decode cX9_next 104 = .ok (.iconst 1, 1) := dk_4 (dk_at dksX9_next_4 11 rfl rfl)
theorem dX9_next_105 : decode cX9_next 105 = .ok (.iadd, 1) := dk_96 (dk_at dksX9_next_4 12 rfl rfl)
theorem dX9_next_106 : decode cX9_next 106 = .ok (.putfield 58, 3) := dk_181 0 58 (dk_at dksX9_next_4 13 rfl rfl)
theorem dX9_next_109 : decode cX9_next 109 = .ok (.goto (-21), 3) := dk_167 255 235 (dk_at dksX9_next_4 16 rfl rfl)
theorem dX9_next_112 : decode cX9_next 112 = .ok (.aload_n 0, 1) := dk_42 (dk_at dksX9_next_4 19 rfl rfl)
theorem dX9_next_113 : decode cX9_next 113 = .ok (.iconst 1, 1) := dk_4 (dk_at dksX9_next_4 20 rfl rfl)
theorem dX9_next_114 : decode cX9_next 114 = .ok (.putfield 64, 3) := dk_181 0 64 (dk_at dksX9_next_4 21 rfl rfl)
theorem dX9_next_117 : decode cX9_next 117 = .ok (.goto 150, 3) := dk_167 0 150 (dk_at dksX9_next_5 0 rfl rfl)
theorem dX9_next_120 : decode cX9_next 120 = .ok (.aload_n 0, 1) := dk_42 (dk_at dksX9_next_5 3 rfl rfl)
theorem dX9_next_121 : decode cX9_next 121 = .ok (.aload_n 0, 1) := dk_42 (dk_at dksX9_next_5 4 rfl rfl)
theorem dX9_next_122 : decode cX9_next 122 = .ok (.getfield 58, 3) := dk_180 0 58 (dk_at dksX9_next_5 5 rfl rfl)
theorem dX9_next_125 : decode cX9_next 125 = .ok (.invokevirtual 71, 3) := dk_182 0 71 (dk_at dksX9_next_5 8 rfl rfl)
theorem dX9_next_128 : decode cX9_next 128 = .ok (.ifCond .eq 93, 3) := dk_153 0 93 (dk_at dksX9_next_5 11 rfl rfl)
theorem dX9_next_131 : decode cX9_next 131 = .ok (.aload_n 0, 1) := dk_42 (dk_at dksX9_next_5 14 rfl rfl)
theorem dX9_next_132 : decode cX9_next 132 = .ok (.iconst 0, 1) := dk_3 (dk_at dksX9_next_5 15 rfl rfl)
theorem dX9_next_133 : decode cX9_next 133 = .ok (.putfield 74, 3) := dk_181 0 74 (dk_at dksX9_next_5 16 rfl rfl)
theorem dX9_next_136 : decode cX9_next 136 = .ok (.aload_n 0, 1) := dk_42 (dk_at dksX9_next_5 19 rfl rfl)
theorem dX9_next_137 : decode cX9_next 137 = .ok (.aload_n 0, 1) := dk_42 (dk_at dksX9_next_5 20 rfl rfl)
theorem dX9_next_138 : decode cX9_next 138 = .ok (.getfield 58, 3) := dk_180 0 58 (dk_at dksX9_next_5 21 rfl rfl)
theorem dX9_next_141 : decode cX9_next 141 = .ok (.invokevirtual 71, 3) := dk_182 0 71 (dk_at dksX9_next_6 0 rfl rfl)
theorem dX9_next_144 : decode cX9_next 144 = .ok (.ifCond .eq 52, 3) := dk_153 0 52 (dk_at dksX9_next_6 3 rfl rfl)
theorem dX9_next_147 : decode cX9_next 147 = .ok (.aload_n 0, 1) := dk_42 (dk_at dksX9_next_6 6 rfl rfl)
theorem dX9_next_148 : decode cX9_next 148 = .ok (.getfield 58, 3) := dk_180 0 58 (dk_at dksX9_next_6 7 rfl rfl)
theorem dX9_next_151 : decode cX9_next 151 = .ok (.aload_n 0, 1) := dk_42 (dk_at dksX9_next_6 10 rfl rfl)
theorem dX9_next_152 : decode cX9_next 152 = .ok (.getfield 61, 3) := dk_180 0 61 (dk_at dksX9_next_6 11 rfl rfl)
theorem dX9_next_155 : decode cX9_next 155 = .ok (.isub, 1) := dk_100 (dk_at dksX9_next_6 14 rfl rfl)
theorem dX9_next_156 : decode cX9_next 156 = .ok (.iconst 3, 1) := dk_6 (dk_at dksX9_next_6 15 rfl rfl)
theorem dX9_next_157 : decode cX9_next 157 = .ok (.if_icmp .ge 26, 3) := dk_162 0 26 (dk_at dksX9_next_6 16 rfl rfl)
theorem dX9_next_160 : decode cX9_next 160 = .ok (.aload_n 0, 1) := dk_42 (dk_at dksX9_next_6 19 rfl rfl)
theorem dX9_next_161 : decode cX9_next 161 = .ok (.bipush 10, 2) := dk_16 10 (dk_at dksX9_next_6 20 rfl rfl)
theorem dX9_next_163 : decode cX9_next 163 = .ok (.aload_n 0, 1) := dk_42 (dk_at dksX9_next_6 22 rfl rfl)
theorem dX9_next_164 : decode cX9_next 164 = .ok (.getfield 74, 3) := dk_180 0 74 (dk_at dksX9_next_7 0 rfl rfl)
theorem dX9_next_167 : decode cX9_next 167 = .ok (.imul, 1) := dk_104 (dk_at dksX9_next_7 3 rfl rfl)
theorem dX9_next_168 : decode cX9_next 168 = .ok (.aload_n 0, 1) := dk_42 (dk_at dksX9_next_7 4 rfl rfl)
theorem dX9_next_169 : decode cX9_next 169 = .ok (.aload_n 0, 1) := dk_42 (dk_at dksX9_next_7 5 rfl rfl)
theorem dX9_next_170 : decode cX9_next 170 = .ok (.getfield 58, 3) := dk_180 0 58 (dk_at dksX9_next_7 6 rfl rfl)
theorem dX9_next_173 : decode cX9_next 173 = .ok (.invokevirtual 42, 3) := dk_182 0 42 (dk_at dksX9_next_7 9 rfl rfl)
theorem dX9_next_176 : decode cX9_next 176 = .ok (.iadd, 1) := dk_96 (dk_at dksX9_next_7 12 rfl rfl)
theorem dX9_next_177 : decode cX9_next 177 = .ok (.bipush 48, 2) := dk_16 48 (dk_at dksX9_next_7 13 rfl rfl)
theorem dX9_next_179 : decode cX9_next 179 = .ok (.isub, 1) := dk_100 (dk_at dksX9_next_7 15 rfl rfl)
theorem dX9_next_180 : decode cX9_next 180 = .ok (.putfield 74, 3) := dk_181 0 74 (dk_at dksX9_next_7 16 rfl rfl)
theorem dX9_next_183 : decode cX9_next 183 = .ok (.aload_n 0, 1) := dk_42 (dk_at dksX9_next_7 19 rfl rfl)
theorem dX9_next_184 : decode cX9_next 184 = .ok (.dup, 1) := dk_89 (dk_at dksX9_next_7 20 rfl rfl)
theorem dX9_next_185 : decode cX9_next 185 = .ok (.getfield 58, 3) := dk_180 0 58 (dk_at dksX9_next_7 21 rfl rfl)
theorem dX9_next_188 : decode cX9_next 188 = .ok (.iconst 1, 1) := dk_4 (dk_at dksX9_next_8 0 rfl rfl)
theorem dX9_next_189 : decode cX9_next 189 = .ok (.iadd, 1) := dk_96 (dk_at dksX9_next_8 1 rfl rfl)
theorem dX9_next_190 : decode cX9_next 190 = .ok (.putfield 58, 3) := dk_181 0 58 (dk_at dksX9_next_8 2 rfl rfl)
theorem dX9_next_193 : decode cX9_next 193 = .ok (.goto (-57), 3) := dk_167 255 199 (dk_at dksX9_next_8 5 rfl rfl)
theorem dX9_next_196 : decode cX9_next 196 = .ok (.aload_n 0, 1) := dk_42 (dk_at dksX9_next_8 8 rfl rfl)
theorem dX9_next_197 : decode cX9_next 197 = .ok (.aload_n 0, 1) := dk_42 (dk_at dksX9_next_8 9 rfl rfl)
theorem dX9_next_198 : decode cX9_next 198 = .ok (.getfield 58, 3) := dk_180 0 58 (dk_at dksX9_next_8 10 rfl rfl)
theorem dX9_next_201 : decode cX9_next 201 = .ok (.aload_n 0, 1) := dk_42 (dk_at dksX9_next_8 13 rfl rfl)
theorem dX9_next_202 : decode cX9_next 202 = .ok (.getfield 61, 3) := dk_180 0 61 (dk_at dksX9_next_8 14 rfl rfl)
theorem dX9_next_205 : decode cX9_next 205 = .ok (.isub, 1) := dk_100 (dk_at dksX9_next_8 17 rfl rfl)
theorem dX9_next_206 : decode cX9_next 206 = .ok (.iconst 3, 1) := dk_6 (dk_at dksX9_next_8 18 rfl rfl)
theorem dX9_next_207 : decode cX9_next 207 = .ok (.if_icmp .le 7, 3) := dk_164 0 7 (dk_at dksX9_next_8 19 rfl rfl)
theorem dX9_next_210 : decode cX9_next 210 = .ok (.iconst 3, 1) := dk_6 (dk_at dksX9_next_8 22 rfl rfl)
theorem dX9_next_211 : decode cX9_next 211 = .ok (.goto 4, 3) := dk_167 0 4 (dk_at dksX9_next_9 0 rfl rfl)
theorem dX9_next_214 : decode cX9_next 214 = .ok (.iconst 2, 1) := dk_5 (dk_at dksX9_next_9 3 rfl rfl)
theorem dX9_next_215 : decode cX9_next 215 = .ok (.putfield 64, 3) := dk_181 0 64 (dk_at dksX9_next_9 4 rfl rfl)
theorem dX9_next_218 : decode cX9_next 218 = .ok (.goto 49, 3) := dk_167 0 49 (dk_at dksX9_next_9 7 rfl rfl)
theorem dX9_next_221 : decode cX9_next 221 = .ok (.aload_n 0, 1) := dk_42 (dk_at dksX9_next_9 10 rfl rfl)
theorem dX9_next_222 : decode cX9_next 222 = .ok (.aload_n 0, 1) := dk_42 (dk_at dksX9_next_9 11 rfl rfl)
theorem dX9_next_223 : decode cX9_next 223 = .ok (.getfield 58, 3) := dk_180 0 58 (dk_at dksX9_next_9 12 rfl rfl)
theorem dX9_next_226 : decode cX9_next 226 = .ok (.invokevirtual 42, 3) := dk_182 0 42 (dk_at dksX9_next_9 15 rfl rfl)
theorem dX9_next_229 : decode cX9_next 229 = .ok (.istore_n 1, 1) := dk_60 (dk_at dksX9_next_9 18 rfl rfl)
theorem dX9_next_230 : decode cX9_next 230 = .ok (.aload_n 0, 1) := dk_42 (dk_at dksX9_next_9 19 rfl rfl)
theorem dX9_next_231 : decode cX9_next 231 = .ok (.dup, 1) := dk_89 (dk_at dksX9_next_9 20 rfl rfl)
theorem dX9_next_232 : decode cX9_next 232 = .ok (.getfield 58, 3) := dk_180 0 58 (dk_at dksX9_next_9 21 rfl rfl)
theorem dX9_next_235 : decode cX9_next 235 = .ok (.iconst 1, 1) := dk_4 (dk_at dksX9_next_10 0 rfl rfl)
theorem dX9_next_236 : decode cX9_next 236 = .ok (.iadd, 1) := dk_96 (dk_at dksX9_next_10 1 rfl rfl)
theorem dX9_next_237 : decode cX9_next 237 = .ok (.putfield 58, 3) := dk_181 0 58 (dk_at dksX9_next_10 2 rfl rfl)
theorem dX9_next_240 : decode cX9_next 240 = .ok (.aload_n 0, 1) := dk_42 (dk_at dksX9_next_10 5 rfl rfl)
theorem dX9_next_241 : decode cX9_next 241 = .ok (.iload_n 1, 1) := dk_27 (dk_at dksX9_next_10 6 rfl rfl)
theorem dX9_next_242 : decode cX9_next 242 = .ok (.bipush 59, 2) := dk_16 59 (dk_at dksX9_next_10 7 rfl rfl)
theorem dX9_next_244 : decode cX9_next 244 = .ok (.if_icmp .eq 15, 3) := dk_159 0 15 (dk_at dksX9_next_10 9 rfl rfl)
theorem dX9_next_247 : decode cX9_next 247 = .ok (.iload_n 1, 1) := dk_27 (dk_at dksX9_next_10 12 rfl rfl)
theorem dX9_next_248 : decode cX9_next 248 = .ok (.bipush 40, 2) := dk_16 40 (dk_at dksX9_next_10 13 rfl rfl)
theorem dX9_next_250 : decode cX9_next 250 = .ok (.if_icmp .eq 9, 3) := dk_159 0 9 (dk_at dksX9_next_10 15 rfl rfl)
theorem dX9_next_253 : decode cX9_next 253 = .ok (.iload_n 1, 1) := dk_27 (dk_at dksX9_next_10 18 rfl rfl)
theorem dX9_next_254 : decode cX9_next 254 = .ok (.bipush 41, 2) := dk_16 41 (dk_at dksX9_next_10 19 rfl rfl)
theorem dX9_next_256 : decode cX9_next 256 = .ok (.if_icmp .ne 7, 3) := dk_160 0 7 (dk_at dksX9_next_10 21 rfl rfl)
theorem dX9_next_259 : decode cX9_next 259 = .ok (.iload_n 1, 1) := dk_27 (dk_at dksX9_next_11 0 rfl rfl)
theorem dX9_next_260 : decode cX9_next 260 = .ok (.goto 4, 3) := dk_167 0 4 (dk_at dksX9_next_11 1 rfl rfl)
theorem dX9_next_263 : decode cX9_next 263 = .ok (.iconst 3, 1) := dk_6 (dk_at dksX9_next_11 4 rfl rfl)
theorem dX9_next_264 : decode cX9_next 264 = .ok (.putfield 64, 3) := dk_181 0 64 (dk_at dksX9_next_11 5 rfl rfl)
theorem dX9_next_267 : decode cX9_next 267 = .ok (.return_, 1) := dk_177 (dk_at dksX9_next_11 8 rfl rfl)
abbrev cX9_see : ByteArray := prog_11_method_2_code
def yX9_see : MethodName := ⟨RX9, "see", "(I)I"⟩
def dkwX9_see_1 : List UInt8 := [3, 172]
abbrev dktX9_see_1 : List UInt8 := dkwX9_see_1 ++ []
def dkwX9_see_0 : List UInt8 := [27, 42, 180, 0, 35, 162, 0, 19, 42, 180, 0, 3, 180, 0, 38, 27, 51, 17, 0, 255, 126, 167, 0, 4]
abbrev dktX9_see_0 : List UInt8 := dkwX9_see_0 ++ dktX9_see_1
theorem dksX9_see_0 : cX9_see.data.toList.drop 0 = dktX9_see_0 := by decide +kernel
theorem dksX9_see_1 : cX9_see.data.toList.drop 24 = dktX9_see_1 := dk_seg dksX9_see_0 24 rfl rfl
theorem dX9_see_0 : decode cX9_see 0 = .ok (.iload_n 1, 1) := dk_27 (dk_at dksX9_see_0 0 rfl rfl)
theorem dX9_see_1 : decode cX9_see 1 = .ok (.aload_n 0, 1) := dk_42 (dk_at dksX9_see_0 1 rfl rfl)
theorem dX9_see_2 : decode cX9_see 2 = .ok (.getfield 35, 3) := dk_180 0 35 (dk_at dksX9_see_0 2 rfl rfl)
theorem dX9_see_5 : decode cX9_see 5 = .ok (.if_icmp .ge 19, 3) := dk_162 0 19 (dk_at dksX9_see_0 5 rfl rfl)
theorem dX9_see_8 : decode cX9_see 8 = .ok (.aload_n 0, 1) := dk_42 (dk_at dksX9_see_0 8 rfl rfl)
theorem dX9_see_9 : decode cX9_see 9 = .ok (.getfield 3, 3) := dk_180 0 3 (dk_at dksX9_see_0 9 rfl rfl)
theorem dX9_see_12 : decode cX9_see 12 = .ok (.getfield 38, 3) := dk_180 0 38 (dk_at dksX9_see_0 12 rfl rfl)
theorem dX9_see_15 : decode cX9_see 15 = .ok (.iload_n 1, 1) := dk_27 (dk_at dksX9_see_0 15 rfl rfl)
theorem dX9_see_16 : decode cX9_see 16 = .ok (.baload, 1) := dk_51 (dk_at dksX9_see_0 16 rfl rfl)
theorem dX9_see_17 : decode cX9_see 17 = .ok (.sipush 255, 3) := dk_17 0 255 (dk_at dksX9_see_0 17 rfl rfl)
theorem dX9_see_20 : decode cX9_see 20 = .ok (.iand, 1) := dk_126 (dk_at dksX9_see_0 20 rfl rfl)
theorem dX9_see_21 : decode cX9_see 21 = .ok (.goto 4, 3) := dk_167 0 4 (dk_at dksX9_see_0 21 rfl rfl)
theorem dX9_see_24 : decode cX9_see 24 = .ok (.iconst 0, 1) := dk_3 (dk_at dksX9_see_1 0 rfl rfl)
theorem dX9_see_25 : decode cX9_see 25 = .ok (.ireturn, 1) := dk_172 (dk_at dksX9_see_1 1 rfl rfl)
abbrev cX9_isSmall : ByteArray := prog_11_method_3_code
def yX9_isSmall : MethodName := ⟨RX9, "isSmall", "(I)Z"⟩
def dkwX9_isSmall_0 : List UInt8 := [42, 27, 182, 0, 42, 133, 20, 0, 46, 20, 0, 48, 184, 0, 50, 172]
abbrev dktX9_isSmall_0 : List UInt8 := dkwX9_isSmall_0 ++ []
theorem dksX9_isSmall_0 : cX9_isSmall.data.toList.drop 0 = dktX9_isSmall_0 := by decide +kernel
theorem dX9_isSmall_0 : decode cX9_isSmall 0 = .ok (.aload_n 0, 1) := dk_42 (dk_at dksX9_isSmall_0 0 rfl rfl)
theorem dX9_isSmall_1 : decode cX9_isSmall 1 = .ok (.iload_n 1, 1) := dk_27 (dk_at dksX9_isSmall_0 1 rfl rfl)
theorem dX9_isSmall_2 : decode cX9_isSmall 2 = .ok (.invokevirtual 42, 3) := dk_182 0 42 (dk_at dksX9_isSmall_0 2 rfl rfl)
theorem dX9_isSmall_5 : decode cX9_isSmall 5 = .ok (.i2l, 1) := dk_133 (dk_at dksX9_isSmall_0 5 rfl rfl)
theorem dX9_isSmall_6 : decode cX9_isSmall 6 = .ok (.ldc2_w 46, 3) := dk_20 0 46 (dk_at dksX9_isSmall_0 6 rfl rfl)
theorem dX9_isSmall_9 : decode cX9_isSmall 9 = .ok (.ldc2_w 48, 3) := dk_20 0 48 (dk_at dksX9_isSmall_0 9 rfl rfl)
theorem dX9_isSmall_12 : decode cX9_isSmall 12 = .ok (.invokestatic 50, 3) := dk_184 0 50 (dk_at dksX9_isSmall_0 12 rfl rfl)
theorem dX9_isSmall_15 : decode cX9_isSmall 15 = .ok (.ireturn, 1) := dk_172 (dk_at dksX9_isSmall_0 15 rfl rfl)
abbrev cX9_isDigit : ByteArray := prog_11_method_4_code
def yX9_isDigit : MethodName := ⟨RX9, "isDigit", "(I)Z"⟩
def dkwX9_isDigit_0 : List UInt8 := [42, 27, 182, 0, 42, 133, 20, 0, 54, 20, 0, 56, 184, 0, 50, 172]
abbrev dktX9_isDigit_0 : List UInt8 := dkwX9_isDigit_0 ++ []
theorem dksX9_isDigit_0 : cX9_isDigit.data.toList.drop 0 = dktX9_isDigit_0 := by decide +kernel
theorem dX9_isDigit_0 : decode cX9_isDigit 0 = .ok (.aload_n 0, 1) := dk_42 (dk_at dksX9_isDigit_0 0 rfl rfl)
theorem dX9_isDigit_1 : decode cX9_isDigit 1 = .ok (.iload_n 1, 1) := dk_27 (dk_at dksX9_isDigit_0 1 rfl rfl)
theorem dX9_isDigit_2 : decode cX9_isDigit 2 = .ok (.invokevirtual 42, 3) := dk_182 0 42 (dk_at dksX9_isDigit_0 2 rfl rfl)
theorem dX9_isDigit_5 : decode cX9_isDigit 5 = .ok (.i2l, 1) := dk_133 (dk_at dksX9_isDigit_0 5 rfl rfl)
theorem dX9_isDigit_6 : decode cX9_isDigit 6 = .ok (.ldc2_w 54, 3) := dk_20 0 54 (dk_at dksX9_isDigit_0 6 rfl rfl)
theorem dX9_isDigit_9 : decode cX9_isDigit 9 = .ok (.ldc2_w 56, 3) := dk_20 0 56 (dk_at dksX9_isDigit_0 9 rfl rfl)
theorem dX9_isDigit_12 : decode cX9_isDigit 12 = .ok (.invokestatic 50, 3) := dk_184 0 50 (dk_at dksX9_isDigit_0 12 rfl rfl)
theorem dX9_isDigit_15 : decode cX9_isDigit 15 = .ok (.ireturn, 1) := dk_172 (dk_at dksX9_isDigit_0 15 rfl rfl)
abbrev cX9_line : ByteArray := prog_11_method_15_code
def yX9_line : MethodName := ⟨RX9, "line", "()V"⟩
def dkwX9_line_3 : List UInt8 := [182, 0, 132, 167, 0, 7, 42, 182, 0, 135, 177]
abbrev dktX9_line_3 : List UInt8 := dkwX9_line_3 ++ []
def dkwX9_line_2 : List UInt8 := [167, 0, 32, 42, 18, 128, 182, 0, 90, 154, 0, 12, 42, 18, 130, 182, 0, 90, 153, 0, 10, 42]
abbrev dktX9_line_2 : List UInt8 := dkwX9_line_2 ++ dktX9_line_3
def dkwX9_line_1 : List UInt8 := [153, 0, 10, 42, 182, 0, 122, 167, 0, 48, 42, 18, 124, 182, 0, 90, 153, 0, 10, 42, 182, 0, 126]
abbrev dktX9_line_1 : List UInt8 := dkwX9_line_1 ++ dktX9_line_2
def dkwX9_line_0 : List UInt8 := [42, 18, 116, 182, 0, 90, 153, 0, 10, 42, 182, 0, 118, 167, 0, 64, 42, 18, 120, 182, 0, 90]
abbrev dktX9_line_0 : List UInt8 := dkwX9_line_0 ++ dktX9_line_1
theorem dksX9_line_0 : cX9_line.data.toList.drop 0 = dktX9_line_0 := by decide +kernel
theorem dksX9_line_1 : cX9_line.data.toList.drop 22 = dktX9_line_1 := dk_seg dksX9_line_0 22 rfl rfl
theorem dksX9_line_2 : cX9_line.data.toList.drop 45 = dktX9_line_2 := dk_seg dksX9_line_1 23 rfl rfl
theorem dksX9_line_3 : cX9_line.data.toList.drop 67 = dktX9_line_3 := dk_seg dksX9_line_2 22 rfl rfl
theorem dX9_line_0 : decode cX9_line 0 = .ok (.aload_n 0, 1) := dk_42 (dk_at dksX9_line_0 0 rfl rfl)
theorem dX9_line_1 : decode cX9_line 1 = .ok (.ldc 116, 2) := dk_18 116 (dk_at dksX9_line_0 1 rfl rfl)
theorem dX9_line_3 : decode cX9_line 3 = .ok (.invokevirtual 90, 3) := dk_182 0 90 (dk_at dksX9_line_0 3 rfl rfl)
theorem dX9_line_6 : decode cX9_line 6 = .ok (.ifCond .eq 10, 3) := dk_153 0 10 (dk_at dksX9_line_0 6 rfl rfl)
theorem dX9_line_9 : decode cX9_line 9 = .ok (.aload_n 0, 1) := dk_42 (dk_at dksX9_line_0 9 rfl rfl)
theorem dX9_line_10 : decode cX9_line 10 = .ok (.invokevirtual 118, 3) := dk_182 0 118 (dk_at dksX9_line_0 10 rfl rfl)
theorem dX9_line_13 : decode cX9_line 13 = .ok (.goto 64, 3) := dk_167 0 64 (dk_at dksX9_line_0 13 rfl rfl)
theorem dX9_line_16 : decode cX9_line 16 = .ok (.aload_n 0, 1) := dk_42 (dk_at dksX9_line_0 16 rfl rfl)
theorem dX9_line_17 : decode cX9_line 17 = .ok (.ldc 120, 2) := dk_18 120 (dk_at dksX9_line_0 17 rfl rfl)
theorem dX9_line_19 : decode cX9_line 19 = .ok (.invokevirtual 90, 3) := dk_182 0 90 (dk_at dksX9_line_0 19 rfl rfl)
theorem dX9_line_22 : decode cX9_line 22 = .ok (.ifCond .eq 10, 3) := dk_153 0 10 (dk_at dksX9_line_1 0 rfl rfl)
theorem dX9_line_25 : decode cX9_line 25 = .ok (.aload_n 0, 1) := dk_42 (dk_at dksX9_line_1 3 rfl rfl)
theorem dX9_line_26 : decode cX9_line 26 = .ok (.invokevirtual 122, 3) := dk_182 0 122 (dk_at dksX9_line_1 4 rfl rfl)
theorem dX9_line_29 : decode cX9_line 29 = .ok (.goto 48, 3) := dk_167 0 48 (dk_at dksX9_line_1 7 rfl rfl)
theorem dX9_line_32 : decode cX9_line 32 = .ok (.aload_n 0, 1) := dk_42 (dk_at dksX9_line_1 10 rfl rfl)
theorem dX9_line_33 : decode cX9_line 33 = .ok (.ldc 124, 2) := dk_18 124 (dk_at dksX9_line_1 11 rfl rfl)
theorem dX9_line_35 : decode cX9_line 35 = .ok (.invokevirtual 90, 3) := dk_182 0 90 (dk_at dksX9_line_1 13 rfl rfl)
theorem dX9_line_38 : decode cX9_line 38 = .ok (.ifCond .eq 10, 3) := dk_153 0 10 (dk_at dksX9_line_1 16 rfl rfl)
theorem dX9_line_41 : decode cX9_line 41 = .ok (.aload_n 0, 1) := dk_42 (dk_at dksX9_line_1 19 rfl rfl)
theorem dX9_line_42 : decode cX9_line 42 = .ok (.invokevirtual 126, 3) := dk_182 0 126 (dk_at dksX9_line_1 20 rfl rfl)
theorem dX9_line_45 : decode cX9_line 45 = .ok (.goto 32, 3) := dk_167 0 32 (dk_at dksX9_line_2 0 rfl rfl)
theorem dX9_line_48 : decode cX9_line 48 = .ok (.aload_n 0, 1) := dk_42 (dk_at dksX9_line_2 3 rfl rfl)
theorem dX9_line_49 : decode cX9_line 49 = .ok (.ldc 128, 2) := dk_18 128 (dk_at dksX9_line_2 4 rfl rfl)
theorem dX9_line_51 : decode cX9_line 51 = .ok (.invokevirtual 90, 3) := dk_182 0 90 (dk_at dksX9_line_2 6 rfl rfl)
theorem dX9_line_54 : decode cX9_line 54 = .ok (.ifCond .ne 12, 3) := dk_154 0 12 (dk_at dksX9_line_2 9 rfl rfl)
theorem dX9_line_57 : decode cX9_line 57 = .ok (.aload_n 0, 1) := dk_42 (dk_at dksX9_line_2 12 rfl rfl)
theorem dX9_line_58 : decode cX9_line 58 = .ok (.ldc 130, 2) := dk_18 130 (dk_at dksX9_line_2 13 rfl rfl)
theorem dX9_line_60 : decode cX9_line 60 = .ok (.invokevirtual 90, 3) := dk_182 0 90 (dk_at dksX9_line_2 15 rfl rfl)
theorem dX9_line_63 : decode cX9_line 63 = .ok (.ifCond .eq 10, 3) := dk_153 0 10 (dk_at dksX9_line_2 18 rfl rfl)
theorem dX9_line_66 : decode cX9_line 66 = .ok (.aload_n 0, 1) := dk_42 (dk_at dksX9_line_2 21 rfl rfl)
theorem dX9_line_67 : decode cX9_line 67 = .ok (.invokevirtual 132, 3) := dk_182 0 132 (dk_at dksX9_line_3 0 rfl rfl)
theorem dX9_line_70 : decode cX9_line 70 = .ok (.goto 7, 3) := dk_167 0 7 (dk_at dksX9_line_3 3 rfl rfl)
theorem dX9_line_73 : decode cX9_line 73 = .ok (.aload_n 0, 1) := dk_42 (dk_at dksX9_line_3 6 rfl rfl)
theorem dX9_line_74 : decode cX9_line 74 = .ok (.invokevirtual 135, 3) := dk_182 0 135 (dk_at dksX9_line_3 7 rfl rfl)
theorem dX9_line_77 : decode cX9_line 77 = .ok (.return_, 1) := dk_177 (dk_at dksX9_line_3 10 rfl rfl)
abbrev cX9_is : ByteArray := prog_11_method_7_code
def yX9_is : MethodName := ⟨RX9, "is", "(Ljava/lang/String;)Z"⟩
def dkwX9_is_2 : List UInt8 := [28, 96, 182, 0, 42, 43, 28, 182, 0, 86, 159, 0, 5, 3, 172, 132, 2, 1, 167, 255, 225, 4, 172]
abbrev dktX9_is_2 : List UInt8 := dkwX9_is_2 ++ []
def dkwX9_is_1 : List UInt8 := [43, 182, 0, 80, 159, 0, 5, 3, 172, 3, 61, 28, 43, 182, 0, 80, 162, 0, 29, 42, 42, 180, 0, 61]
abbrev dktX9_is_1 : List UInt8 := dkwX9_is_1 ++ dktX9_is_2
def dkwX9_is_0 : List UInt8 := [42, 180, 0, 77, 154, 0, 27, 42, 180, 0, 64, 4, 160, 0, 19, 42, 180, 0, 58, 42, 180, 0, 61, 100]
abbrev dktX9_is_0 : List UInt8 := dkwX9_is_0 ++ dktX9_is_1
theorem dksX9_is_0 : cX9_is.data.toList.drop 0 = dktX9_is_0 := by decide +kernel
theorem dksX9_is_1 : cX9_is.data.toList.drop 24 = dktX9_is_1 := dk_seg dksX9_is_0 24 rfl rfl
theorem dksX9_is_2 : cX9_is.data.toList.drop 48 = dktX9_is_2 := dk_seg dksX9_is_1 24 rfl rfl
theorem dX9_is_0 : decode cX9_is 0 = .ok (.aload_n 0, 1) := dk_42 (dk_at dksX9_is_0 0 rfl rfl)
theorem dX9_is_1 : decode cX9_is 1 = .ok (.getfield 77, 3) := dk_180 0 77 (dk_at dksX9_is_0 1 rfl rfl)
theorem dX9_is_4 : decode cX9_is 4 = .ok (.ifCond .ne 27, 3) := dk_154 0 27 (dk_at dksX9_is_0 4 rfl rfl)
theorem dX9_is_7 : decode cX9_is 7 = .ok (.aload_n 0, 1) := dk_42 (dk_at dksX9_is_0 7 rfl rfl)
theorem dX9_is_8 : decode cX9_is 8 = .ok (.getfield 64, 3) := dk_180 0 64 (dk_at dksX9_is_0 8 rfl rfl)
theorem dX9_is_11 : decode cX9_is 11 = .ok (.iconst 1, 1) := dk_4 (dk_at dksX9_is_0 11 rfl rfl)
theorem dX9_is_12 : decode cX9_is 12 = .ok (.if_icmp .ne 19, 3) := dk_160 0 19 (dk_at dksX9_is_0 12 rfl rfl)
theorem dX9_is_15 : decode cX9_is 15 = .ok (.aload_n 0, 1) := dk_42 (dk_at dksX9_is_0 15 rfl rfl)
theorem dX9_is_16 : decode cX9_is 16 = .ok (.getfield 58, 3) := dk_180 0 58 (dk_at dksX9_is_0 16 rfl rfl)
theorem dX9_is_19 : decode cX9_is 19 = .ok (.aload_n 0, 1) := dk_42 (dk_at dksX9_is_0 19 rfl rfl)
theorem dX9_is_20 : decode cX9_is 20 = .ok (.getfield 61, 3) := dk_180 0 61 (dk_at dksX9_is_0 20 rfl rfl)
theorem dX9_is_23 : decode cX9_is 23 = .ok (.isub, 1) := dk_100 (dk_at dksX9_is_0 23 rfl rfl)
theorem dX9_is_24 : decode cX9_is 24 = .ok (.aload_n 1, 1) := dk_43 (dk_at dksX9_is_1 0 rfl rfl)
theorem dX9_is_25 : decode cX9_is 25 = .ok (.invokevirtual 80, 3) := dk_182 0 80 (dk_at dksX9_is_1 1 rfl rfl)
theorem dX9_is_28 : decode cX9_is 28 = .ok (.if_icmp .eq 5, 3) := dk_159 0 5 (dk_at dksX9_is_1 4 rfl rfl)
theorem dX9_is_31 : decode cX9_is 31 = .ok (.iconst 0, 1) := dk_3 (dk_at dksX9_is_1 7 rfl rfl)
theorem dX9_is_32 : decode cX9_is 32 = .ok (.ireturn, 1) := dk_172 (dk_at dksX9_is_1 8 rfl rfl)
theorem dX9_is_33 : decode cX9_is 33 = .ok (.iconst 0, 1) := dk_3 (dk_at dksX9_is_1 9 rfl rfl)
theorem dX9_is_34 : decode cX9_is 34 = .ok (.istore_n 2, 1) := dk_61 (dk_at dksX9_is_1 10 rfl rfl)
theorem dX9_is_35 : decode cX9_is 35 = .ok (.iload_n 2, 1) := dk_28 (dk_at dksX9_is_1 11 rfl rfl)
theorem dX9_is_36 : decode cX9_is 36 = .ok (.aload_n 1, 1) := dk_43 (dk_at dksX9_is_1 12 rfl rfl)
theorem dX9_is_37 : decode cX9_is 37 = .ok (.invokevirtual 80, 3) := dk_182 0 80 (dk_at dksX9_is_1 13 rfl rfl)
theorem dX9_is_40 : decode cX9_is 40 = .ok (.if_icmp .ge 29, 3) := dk_162 0 29 (dk_at dksX9_is_1 16 rfl rfl)
theorem dX9_is_43 : decode cX9_is 43 = .ok (.aload_n 0, 1) := dk_42 (dk_at dksX9_is_1 19 rfl rfl)
theorem dX9_is_44 : decode cX9_is 44 = .ok (.aload_n 0, 1) := dk_42 (dk_at dksX9_is_1 20 rfl rfl)
theorem dX9_is_45 : decode cX9_is 45 = .ok (.getfield 61, 3) := dk_180 0 61 (dk_at dksX9_is_1 21 rfl rfl)
theorem dX9_is_48 : decode cX9_is 48 = .ok (.iload_n 2, 1) := dk_28 (dk_at dksX9_is_2 0 rfl rfl)
theorem dX9_is_49 : decode cX9_is 49 = .ok (.iadd, 1) := dk_96 (dk_at dksX9_is_2 1 rfl rfl)
theorem dX9_is_50 : decode cX9_is 50 = .ok (.invokevirtual 42, 3) := dk_182 0 42 (dk_at dksX9_is_2 2 rfl rfl)
theorem dX9_is_53 : decode cX9_is 53 = .ok (.aload_n 1, 1) := dk_43 (dk_at dksX9_is_2 5 rfl rfl)
theorem dX9_is_54 : decode cX9_is 54 = .ok (.iload_n 2, 1) := dk_28 (dk_at dksX9_is_2 6 rfl rfl)
theorem dX9_is_55 : decode cX9_is 55 = .ok (.invokevirtual 86, 3) := dk_182 0 86 (dk_at dksX9_is_2 7 rfl rfl)
theorem dX9_is_58 : decode cX9_is 58 = .ok (.if_icmp .eq 5, 3) := dk_159 0 5 (dk_at dksX9_is_2 10 rfl rfl)
theorem dX9_is_61 : decode cX9_is 61 = .ok (.iconst 0, 1) := dk_3 (dk_at dksX9_is_2 13 rfl rfl)
theorem dX9_is_62 : decode cX9_is 62 = .ok (.ireturn, 1) := dk_172 (dk_at dksX9_is_2 14 rfl rfl)
theorem dX9_is_63 : decode cX9_is 63 = .ok (.iinc 2 1, 3) := dk_132 2 1 (dk_at dksX9_is_2 15 rfl rfl)
theorem dX9_is_66 : decode cX9_is 66 = .ok (.goto (-31), 3) := dk_167 255 225 (dk_at dksX9_is_2 18 rfl rfl)
theorem dX9_is_69 : decode cX9_is 69 = .ok (.iconst 1, 1) := dk_4 (dk_at dksX9_is_2 21 rfl rfl)
theorem dX9_is_70 : decode cX9_is 70 = .ok (.ireturn, 1) := dk_172 (dk_at dksX9_is_2 22 rfl rfl)
abbrev cX9_row : ByteArray := prog_11_method_17_code
def yX9_row : MethodName := ⟨RX9, "row", "()V"⟩
def dkwX9_row_2 : List UInt8 := [27, 183, 0, 171, 182, 0, 172, 87, 177]
abbrev dktX9_row_2 : List UInt8 := dkwX9_row_2 ++ []
def dkwX9_row_1 : List UInt8 := [4, 6, 182, 0, 139, 60, 42, 180, 0, 77, 154, 0, 22, 42, 180, 0, 18, 180, 0, 160, 187, 0, 169, 89]
abbrev dktX9_row_1 : List UInt8 := dkwX9_row_1 ++ dktX9_row_2
def dkwX9_row_0 : List UInt8 := [42, 42, 180, 0, 18, 180, 0, 160, 182, 0, 163, 8, 160, 0, 7, 4, 167, 0, 4, 3, 182, 0, 165, 42]
abbrev dktX9_row_0 : List UInt8 := dkwX9_row_0 ++ dktX9_row_1
theorem dksX9_row_0 : cX9_row.data.toList.drop 0 = dktX9_row_0 := by decide +kernel
theorem dksX9_row_1 : cX9_row.data.toList.drop 24 = dktX9_row_1 := dk_seg dksX9_row_0 24 rfl rfl
theorem dksX9_row_2 : cX9_row.data.toList.drop 48 = dktX9_row_2 := dk_seg dksX9_row_1 24 rfl rfl
theorem dX9_row_0 : decode cX9_row 0 = .ok (.aload_n 0, 1) := dk_42 (dk_at dksX9_row_0 0 rfl rfl)
theorem dX9_row_1 : decode cX9_row 1 = .ok (.aload_n 0, 1) := dk_42 (dk_at dksX9_row_0 1 rfl rfl)
theorem dX9_row_2 : decode cX9_row 2 = .ok (.getfield 18, 3) := dk_180 0 18 (dk_at dksX9_row_0 2 rfl rfl)
theorem dX9_row_5 : decode cX9_row 5 = .ok (.getfield 160, 3) := dk_180 0 160 (dk_at dksX9_row_0 5 rfl rfl)
theorem dX9_row_8 : decode cX9_row 8 = .ok (.invokevirtual 163, 3) := dk_182 0 163 (dk_at dksX9_row_0 8 rfl rfl)
theorem dX9_row_11 : decode cX9_row 11 = .ok (.iconst 5, 1) := dk_8 (dk_at dksX9_row_0 11 rfl rfl)
theorem dX9_row_12 : decode cX9_row 12 = .ok (.if_icmp .ne 7, 3) := dk_160 0 7 (dk_at dksX9_row_0 12 rfl rfl)
theorem dX9_row_15 : decode cX9_row 15 = .ok (.iconst 1, 1) := dk_4 (dk_at dksX9_row_0 15 rfl rfl)
theorem dX9_row_16 : decode cX9_row 16 = .ok (.goto 4, 3) := dk_167 0 4 (dk_at dksX9_row_0 16 rfl rfl)
theorem dX9_row_19 : decode cX9_row 19 = .ok (.iconst 0, 1) := dk_3 (dk_at dksX9_row_0 19 rfl rfl)
theorem dX9_row_20 : decode cX9_row 20 = .ok (.invokevirtual 165, 3) := dk_182 0 165 (dk_at dksX9_row_0 20 rfl rfl)
theorem dX9_row_23 : decode cX9_row 23 = .ok (.aload_n 0, 1) := dk_42 (dk_at dksX9_row_0 23 rfl rfl)
theorem dX9_row_24 : decode cX9_row 24 = .ok (.iconst 1, 1) := dk_4 (dk_at dksX9_row_1 0 rfl rfl)
theorem dX9_row_25 : decode cX9_row 25 = .ok (.iconst 3, 1) := dk_6 (dk_at dksX9_row_1 1 rfl rfl)
theorem dX9_row_26 : decode cX9_row 26 = .ok (.invokevirtual 139, 3) := dk_182 0 139 (dk_at dksX9_row_1 2 rfl rfl)
theorem dX9_row_29 : decode cX9_row 29 = .ok (.istore_n 1, 1) := dk_60 (dk_at dksX9_row_1 5 rfl rfl)
theorem dX9_row_30 : decode cX9_row 30 = .ok (.aload_n 0, 1) := dk_42 (dk_at dksX9_row_1 6 rfl rfl)
theorem dX9_row_31 : decode cX9_row 31 = .ok (.getfield 77, 3) := dk_180 0 77 (dk_at dksX9_row_1 7 rfl rfl)
theorem dX9_row_34 : decode cX9_row 34 = .ok (.ifCond .ne 22, 3) := dk_154 0 22 (dk_at dksX9_row_1 10 rfl rfl)
theorem dX9_row_37 : decode cX9_row 37 = .ok (.aload_n 0, 1) := dk_42 (dk_at dksX9_row_1 13 rfl rfl)
theorem dX9_row_38 : decode cX9_row 38 = .ok (.getfield 18, 3) := dk_180 0 18 (dk_at dksX9_row_1 14 rfl rfl)
theorem dX9_row_41 : decode cX9_row 41 = .ok (.getfield 160, 3) := dk_180 0 160 (dk_at dksX9_row_1 17 rfl rfl)
theorem dX9_row_44 : decode cX9_row 44 = .ok (.new 169, 3) := dk_187 0 169 (dk_at dksX9_row_1 20 rfl rfl)
theorem dX9_row_47 : decode cX9_row 47 = .ok (.dup, 1) := dk_89 (dk_at dksX9_row_1 23 rfl rfl)
theorem dX9_row_48 : decode cX9_row 48 = .ok (.iload_n 1, 1) := dk_27 (dk_at dksX9_row_2 0 rfl rfl)
theorem dX9_row_49 : decode cX9_row 49 = .ok (.invokespecial 171, 3) := dk_183 0 171 (dk_at dksX9_row_2 1 rfl rfl)
theorem dX9_row_52 : decode cX9_row 52 = .ok (.invokevirtual 172, 3) := dk_182 0 172 (dk_at dksX9_row_2 4 rfl rfl)
theorem dX9_row_55 : decode cX9_row 55 = .ok (.pop, 1) := dk_87 (dk_at dksX9_row_2 7 rfl rfl)
theorem dX9_row_56 : decode cX9_row 56 = .ok (.return_, 1) := dk_177 (dk_at dksX9_row_2 8 rfl rfl)
abbrev cX9_space : ByteArray := prog_11_method_13_code
def yX9_space : MethodName := ⟨RX9, "space", "(Z)V"⟩
def dkwX9_space_0 : List UInt8 := [27, 153, 0, 8, 42, 7, 182, 0, 100, 42, 180, 0, 77, 154, 0, 7, 42, 182, 0, 94, 177]
abbrev dktX9_space_0 : List UInt8 := dkwX9_space_0 ++ []
theorem dksX9_space_0 : cX9_space.data.toList.drop 0 = dktX9_space_0 := by decide +kernel
theorem dX9_space_0 : decode cX9_space 0 = .ok (.iload_n 1, 1) := dk_27 (dk_at dksX9_space_0 0 rfl rfl)
theorem dX9_space_1 : decode cX9_space 1 = .ok (.ifCond .eq 8, 3) := dk_153 0 8 (dk_at dksX9_space_0 1 rfl rfl)
theorem dX9_space_4 : decode cX9_space 4 = .ok (.aload_n 0, 1) := dk_42 (dk_at dksX9_space_0 4 rfl rfl)
theorem dX9_space_5 : decode cX9_space 5 = .ok (.iconst 4, 1) := dk_7 (dk_at dksX9_space_0 5 rfl rfl)
theorem dX9_space_6 : decode cX9_space 6 = .ok (.invokevirtual 100, 3) := dk_182 0 100 (dk_at dksX9_space_0 6 rfl rfl)
theorem dX9_space_9 : decode cX9_space 9 = .ok (.aload_n 0, 1) := dk_42 (dk_at dksX9_space_0 9 rfl rfl)
theorem dX9_space_10 : decode cX9_space 10 = .ok (.getfield 77, 3) := dk_180 0 77 (dk_at dksX9_space_0 10 rfl rfl)
theorem dX9_space_13 : decode cX9_space 13 = .ok (.ifCond .ne 7, 3) := dk_154 0 7 (dk_at dksX9_space_0 13 rfl rfl)
theorem dX9_space_16 : decode cX9_space 16 = .ok (.aload_n 0, 1) := dk_42 (dk_at dksX9_space_0 16 rfl rfl)
theorem dX9_space_17 : decode cX9_space 17 = .ok (.invokevirtual 94, 3) := dk_182 0 94 (dk_at dksX9_space_0 17 rfl rfl)
theorem dX9_space_20 : decode cX9_space 20 = .ok (.return_, 1) := dk_177 (dk_at dksX9_space_0 20 rfl rfl)
abbrev cX9_wrong : ByteArray := prog_11_method_6_code
def yX9_wrong : MethodName := ⟨RX9, "wrong", "(I)V"⟩
def dkwX9_wrong_1 : List UInt8 := [181, 0, 77, 42, 42, 180, 0, 61, 181, 0, 31, 177]
abbrev dktX9_wrong_1 : List UInt8 := dkwX9_wrong_1 ++ []
def dkwX9_wrong_0 : List UInt8 := [42, 180, 0, 77, 153, 0, 4, 177, 42, 42, 180, 0, 64, 6, 160, 0, 7, 4, 167, 0, 4, 27]
abbrev dktX9_wrong_0 : List UInt8 := dkwX9_wrong_0 ++ dktX9_wrong_1
theorem dksX9_wrong_0 : cX9_wrong.data.toList.drop 0 = dktX9_wrong_0 := by decide +kernel
theorem dksX9_wrong_1 : cX9_wrong.data.toList.drop 22 = dktX9_wrong_1 := dk_seg dksX9_wrong_0 22 rfl rfl
theorem dX9_wrong_0 : decode cX9_wrong 0 = .ok (.aload_n 0, 1) := dk_42 (dk_at dksX9_wrong_0 0 rfl rfl)
theorem dX9_wrong_1 : decode cX9_wrong 1 = .ok (.getfield 77, 3) := dk_180 0 77 (dk_at dksX9_wrong_0 1 rfl rfl)
theorem dX9_wrong_4 : decode cX9_wrong 4 = .ok (.ifCond .eq 4, 3) := dk_153 0 4 (dk_at dksX9_wrong_0 4 rfl rfl)
theorem dX9_wrong_7 : decode cX9_wrong 7 = .ok (.return_, 1) := dk_177 (dk_at dksX9_wrong_0 7 rfl rfl)
theorem dX9_wrong_8 : decode cX9_wrong 8 = .ok (.aload_n 0, 1) := dk_42 (dk_at dksX9_wrong_0 8 rfl rfl)
theorem dX9_wrong_9 : decode cX9_wrong 9 = .ok (.aload_n 0, 1) := dk_42 (dk_at dksX9_wrong_0 9 rfl rfl)
theorem dX9_wrong_10 : decode cX9_wrong 10 = .ok (.getfield 64, 3) := dk_180 0 64 (dk_at dksX9_wrong_0 10 rfl rfl)
theorem dX9_wrong_13 : decode cX9_wrong 13 = .ok (.iconst 3, 1) := dk_6 (dk_at dksX9_wrong_0 13 rfl rfl)
theorem dX9_wrong_14 : decode cX9_wrong 14 = .ok (.if_icmp .ne 7, 3) := dk_160 0 7 (dk_at dksX9_wrong_0 14 rfl rfl)
theorem dX9_wrong_17 : decode cX9_wrong 17 = .ok (.iconst 1, 1) := dk_4 (dk_at dksX9_wrong_0 17 rfl rfl)
theorem dX9_wrong_18 : decode cX9_wrong 18 = .ok (.goto 4, 3) := dk_167 0 4 (dk_at dksX9_wrong_0 18 rfl rfl)
theorem dX9_wrong_21 : decode cX9_wrong 21 = .ok (.iload_n 1, 1) := dk_27 (dk_at dksX9_wrong_0 21 rfl rfl)
theorem dX9_wrong_22 : decode cX9_wrong 22 = .ok (.putfield 77, 3) := dk_181 0 77 (dk_at dksX9_wrong_1 0 rfl rfl)
theorem dX9_wrong_25 : decode cX9_wrong 25 = .ok (.aload_n 0, 1) := dk_42 (dk_at dksX9_wrong_1 3 rfl rfl)
theorem dX9_wrong_26 : decode cX9_wrong 26 = .ok (.aload_n 0, 1) := dk_42 (dk_at dksX9_wrong_1 4 rfl rfl)
theorem dX9_wrong_27 : decode cX9_wrong 27 = .ok (.getfield 61, 3) := dk_180 0 61 (dk_at dksX9_wrong_1 5 rfl rfl)
theorem dX9_wrong_30 : decode cX9_wrong 30 = .ok (.putfield 31, 3) := dk_181 0 31 (dk_at dksX9_wrong_1 8 rfl rfl)
theorem dX9_wrong_33 : decode cX9_wrong 33 = .ok (.return_, 1) := dk_177 (dk_at dksX9_wrong_1 11 rfl rfl)
abbrev cX9_number : ByteArray := prog_11_method_11_code
def yX9_number : MethodName := ⟨RX9, "number", "(II)I"⟩
def dkwX9_number_0 : List UInt8 := [42, 27, 28, 182, 0, 103, 154, 0, 5, 3, 172, 42, 180, 0, 74, 62, 42, 182, 0, 94, 29, 172]
abbrev dktX9_number_0 : List UInt8 := dkwX9_number_0 ++ []
theorem dksX9_number_0 : cX9_number.data.toList.drop 0 = dktX9_number_0 := by decide +kernel
theorem dX9_number_0 : decode cX9_number 0 = .ok (.aload_n 0, 1) := dk_42 (dk_at dksX9_number_0 0 rfl rfl)
theorem dX9_number_1 : decode cX9_number 1 = .ok (.iload_n 1, 1) := dk_27 (dk_at dksX9_number_0 1 rfl rfl)
theorem dX9_number_2 : decode cX9_number 2 = .ok (.iload_n 2, 1) := dk_28 (dk_at dksX9_number_0 2 rfl rfl)
theorem dX9_number_3 : decode cX9_number 3 = .ok (.invokevirtual 103, 3) := dk_182 0 103 (dk_at dksX9_number_0 3 rfl rfl)
theorem dX9_number_6 : decode cX9_number 6 = .ok (.ifCond .ne 5, 3) := dk_154 0 5 (dk_at dksX9_number_0 6 rfl rfl)
theorem dX9_number_9 : decode cX9_number 9 = .ok (.iconst 0, 1) := dk_3 (dk_at dksX9_number_0 9 rfl rfl)
theorem dX9_number_10 : decode cX9_number 10 = .ok (.ireturn, 1) := dk_172 (dk_at dksX9_number_0 10 rfl rfl)
theorem dX9_number_11 : decode cX9_number 11 = .ok (.aload_n 0, 1) := dk_42 (dk_at dksX9_number_0 11 rfl rfl)
theorem dX9_number_12 : decode cX9_number 12 = .ok (.getfield 74, 3) := dk_180 0 74 (dk_at dksX9_number_0 12 rfl rfl)
theorem dX9_number_15 : decode cX9_number 15 = .ok (.istore_n 3, 1) := dk_62 (dk_at dksX9_number_0 15 rfl rfl)
theorem dX9_number_16 : decode cX9_number 16 = .ok (.aload_n 0, 1) := dk_42 (dk_at dksX9_number_0 16 rfl rfl)
theorem dX9_number_17 : decode cX9_number 17 = .ok (.invokevirtual 94, 3) := dk_182 0 94 (dk_at dksX9_number_0 17 rfl rfl)
theorem dX9_number_20 : decode cX9_number 20 = .ok (.iload_n 3, 1) := dk_29 (dk_at dksX9_number_0 20 rfl rfl)
theorem dX9_number_21 : decode cX9_number 21 = .ok (.ireturn, 1) := dk_172 (dk_at dksX9_number_0 21 rfl rfl)
abbrev cX9_seen : ByteArray := prog_11_method_10_code
def yX9_seen : MethodName := ⟨RX9, "seen", "(II)Z"⟩
def dkwX9_seen_2 : List UInt8 := [180, 0, 77, 154, 0, 7, 4, 167, 0, 4, 3, 172]
abbrev dktX9_seen_2 : List UInt8 := dkwX9_seen_2 ++ []
def dkwX9_seen_1 : List UInt8 := [154, 0, 23, 42, 180, 0, 74, 133, 27, 133, 28, 133, 184, 0, 50, 154, 0, 8, 42, 6, 182, 0, 100, 42]
abbrev dktX9_seen_1 : List UInt8 := dkwX9_seen_1 ++ dktX9_seen_2
def dkwX9_seen_0 : List UInt8 := [42, 180, 0, 77, 154, 0, 16, 42, 180, 0, 64, 5, 159, 0, 8, 42, 5, 182, 0, 100, 42, 180, 0, 77]
abbrev dktX9_seen_0 : List UInt8 := dkwX9_seen_0 ++ dktX9_seen_1
theorem dksX9_seen_0 : cX9_seen.data.toList.drop 0 = dktX9_seen_0 := by decide +kernel
theorem dksX9_seen_1 : cX9_seen.data.toList.drop 24 = dktX9_seen_1 := dk_seg dksX9_seen_0 24 rfl rfl
theorem dksX9_seen_2 : cX9_seen.data.toList.drop 48 = dktX9_seen_2 := dk_seg dksX9_seen_1 24 rfl rfl
theorem dX9_seen_0 : decode cX9_seen 0 = .ok (.aload_n 0, 1) := dk_42 (dk_at dksX9_seen_0 0 rfl rfl)
theorem dX9_seen_1 : decode cX9_seen 1 = .ok (.getfield 77, 3) := dk_180 0 77 (dk_at dksX9_seen_0 1 rfl rfl)
theorem dX9_seen_4 : decode cX9_seen 4 = .ok (.ifCond .ne 16, 3) := dk_154 0 16 (dk_at dksX9_seen_0 4 rfl rfl)
theorem dX9_seen_7 : decode cX9_seen 7 = .ok (.aload_n 0, 1) := dk_42 (dk_at dksX9_seen_0 7 rfl rfl)
theorem dX9_seen_8 : decode cX9_seen 8 = .ok (.getfield 64, 3) := dk_180 0 64 (dk_at dksX9_seen_0 8 rfl rfl)
theorem dX9_seen_11 : decode cX9_seen 11 = .ok (.iconst 2, 1) := dk_5 (dk_at dksX9_seen_0 11 rfl rfl)
theorem dX9_seen_12 : decode cX9_seen 12 = .ok (.if_icmp .eq 8, 3) := dk_159 0 8 (dk_at dksX9_seen_0 12 rfl rfl)
theorem dX9_seen_15 : decode cX9_seen 15 = .ok (.aload_n 0, 1) := dk_42 (dk_at dksX9_seen_0 15 rfl rfl)
theorem dX9_seen_16 : decode cX9_seen 16 = .ok (.iconst 2, 1) := dk_5 (dk_at dksX9_seen_0 16 rfl rfl)
theorem dX9_seen_17 : decode cX9_seen 17 = .ok (.invokevirtual 100, 3) := dk_182 0 100 (dk_at dksX9_seen_0 17 rfl rfl)
theorem dX9_seen_20 : decode cX9_seen 20 = .ok (.aload_n 0, 1) := dk_42 (dk_at dksX9_seen_0 20 rfl rfl)
theorem dX9_seen_21 : decode cX9_seen 21 = .ok (.getfield 77, 3) := dk_180 0 77 (dk_at dksX9_seen_0 21 rfl rfl)
theorem dX9_seen_24 : decode cX9_seen 24 = .ok (.ifCond .ne 23, 3) := dk_154 0 23 (dk_at dksX9_seen_1 0 rfl rfl)
theorem dX9_seen_27 : decode cX9_seen 27 = .ok (.aload_n 0, 1) := dk_42 (dk_at dksX9_seen_1 3 rfl rfl)
theorem dX9_seen_28 : decode cX9_seen 28 = .ok (.getfield 74, 3) := dk_180 0 74 (dk_at dksX9_seen_1 4 rfl rfl)
theorem dX9_seen_31 : decode cX9_seen 31 = .ok (.i2l, 1) := dk_133 (dk_at dksX9_seen_1 7 rfl rfl)
theorem dX9_seen_32 : decode cX9_seen 32 = .ok (.iload_n 1, 1) := dk_27 (dk_at dksX9_seen_1 8 rfl rfl)
theorem dX9_seen_33 : decode cX9_seen 33 = .ok (.i2l, 1) := dk_133 (dk_at dksX9_seen_1 9 rfl rfl)
theorem dX9_seen_34 : decode cX9_seen 34 = .ok (.iload_n 2, 1) := dk_28 (dk_at dksX9_seen_1 10 rfl rfl)
theorem dX9_seen_35 : decode cX9_seen 35 = .ok (.i2l, 1) := dk_133 (dk_at dksX9_seen_1 11 rfl rfl)
theorem dX9_seen_36 : decode cX9_seen 36 = .ok (.invokestatic 50, 3) := dk_184 0 50 (dk_at dksX9_seen_1 12 rfl rfl)
theorem dX9_seen_39 : decode cX9_seen 39 = .ok (.ifCond .ne 8, 3) := dk_154 0 8 (dk_at dksX9_seen_1 15 rfl rfl)
theorem dX9_seen_42 : decode cX9_seen 42 = .ok (.aload_n 0, 1) := dk_42 (dk_at dksX9_seen_1 18 rfl rfl)
theorem dX9_seen_43 : decode cX9_seen 43 = .ok (.iconst 3, 1) := dk_6 (dk_at dksX9_seen_1 19 rfl rfl)
theorem dX9_seen_44 : decode cX9_seen 44 = .ok (.invokevirtual 100, 3) := dk_182 0 100 (dk_at dksX9_seen_1 20 rfl rfl)
theorem dX9_seen_47 : decode cX9_seen 47 = .ok (.aload_n 0, 1) := dk_42 (dk_at dksX9_seen_1 23 rfl rfl)
theorem dX9_seen_48 : decode cX9_seen 48 = .ok (.getfield 77, 3) := dk_180 0 77 (dk_at dksX9_seen_2 0 rfl rfl)
theorem dX9_seen_51 : decode cX9_seen 51 = .ok (.ifCond .ne 7, 3) := dk_154 0 7 (dk_at dksX9_seen_2 3 rfl rfl)
theorem dX9_seen_54 : decode cX9_seen 54 = .ok (.iconst 1, 1) := dk_4 (dk_at dksX9_seen_2 6 rfl rfl)
theorem dX9_seen_55 : decode cX9_seen 55 = .ok (.goto 4, 3) := dk_167 0 4 (dk_at dksX9_seen_2 7 rfl rfl)
theorem dX9_seen_58 : decode cX9_seen 58 = .ok (.iconst 0, 1) := dk_3 (dk_at dksX9_seen_2 10 rfl rfl)
theorem dX9_seen_59 : decode cX9_seen 59 = .ok (.ireturn, 1) := dk_172 (dk_at dksX9_seen_2 11 rfl rfl)
abbrev cX9_stone : ByteArray := prog_11_method_18_code
def yX9_stone : MethodName := ⟨RX9, "stone", "()V"⟩
def dkwX9_stone_9 : List UInt8 := [182, 0, 172, 87, 177]
abbrev dktX9_stone_9 : List UInt8 := dkwX9_stone_9 ++ []
def dkwX9_stone_8 : List UInt8 := [181, 0, 189, 42, 180, 0, 18, 180, 0, 176, 187, 0, 197, 89, 27, 28, 29, 21, 4, 183, 0, 199]
abbrev dktX9_stone_8 : List UInt8 := dkwX9_stone_8 ++ dktX9_stone_9
def dkwX9_stone_7 : List UInt8 := [153, 0, 4, 177, 42, 180, 0, 18, 180, 0, 160, 29, 182, 0, 185, 192, 0, 169, 89, 180, 0, 189, 4, 96]
abbrev dktX9_stone_7 : List UInt8 := dkwX9_stone_7 ++ dktX9_stone_8
def dkwX9_stone_6 : List UInt8 := [182, 0, 97, 153, 0, 13, 42, 3, 16, 99, 182, 0, 139, 167, 0, 5, 16, 99, 54, 4, 42, 180, 0, 77]
abbrev dktX9_stone_6 : List UInt8 := dkwX9_stone_6 ++ dktX9_stone_7
def dkwX9_stone_5 : List UInt8 := [182, 0, 100, 42, 3, 42, 180, 0, 18, 180, 0, 160, 182, 0, 163, 4, 100, 182, 0, 139, 62, 42, 18, 195]
abbrev dktX9_stone_5 : List UInt8 := dkwX9_stone_5 ++ dktX9_stone_6
def dkwX9_stone_4 : List UInt8 := [180, 0, 18, 180, 0, 160, 42, 180, 0, 74, 182, 0, 185, 192, 0, 169, 180, 0, 192, 160, 0, 8, 42, 6]
abbrev dktX9_stone_4 : List UInt8 := dkwX9_stone_4 ++ dktX9_stone_5
def dkwX9_stone_3 : List UInt8 := [153, 0, 51, 42, 180, 0, 18, 180, 0, 160, 42, 180, 0, 74, 182, 0, 185, 192, 0, 169, 180, 0, 189, 42]
abbrev dktX9_stone_3 : List UInt8 := dkwX9_stone_3 ++ dktX9_stone_4
def dkwX9_stone_2 : List UInt8 := [18, 184, 182, 0, 180, 42, 3, 42, 180, 0, 18, 180, 0, 160, 182, 0, 163, 4, 100, 182, 0, 103]
abbrev dktX9_stone_2 : List UInt8 := dkwX9_stone_2 ++ dktX9_stone_3
def dkwX9_stone_1 : List UInt8 := [42, 3, 16, 7, 182, 0, 139, 60, 42, 18, 179, 182, 0, 180, 42, 4, 16, 9, 182, 0, 139, 61, 42]
abbrev dktX9_stone_1 : List UInt8 := dkwX9_stone_1 ++ dktX9_stone_2
def dkwX9_stone_0 : List UInt8 := [42, 42, 180, 0, 18, 180, 0, 176, 182, 0, 163, 16, 8, 160, 0, 7, 4, 167, 0, 4, 3, 182, 0, 165]
abbrev dktX9_stone_0 : List UInt8 := dkwX9_stone_0 ++ dktX9_stone_1
theorem dksX9_stone_0 : cX9_stone.data.toList.drop 0 = dktX9_stone_0 := by decide +kernel
theorem dksX9_stone_1 : cX9_stone.data.toList.drop 24 = dktX9_stone_1 := dk_seg dksX9_stone_0 24 rfl rfl
theorem dksX9_stone_2 : cX9_stone.data.toList.drop 47 = dktX9_stone_2 := dk_seg dksX9_stone_1 23 rfl rfl
theorem dksX9_stone_3 : cX9_stone.data.toList.drop 69 = dktX9_stone_3 := dk_seg dksX9_stone_2 22 rfl rfl
theorem dksX9_stone_4 : cX9_stone.data.toList.drop 93 = dktX9_stone_4 := dk_seg dksX9_stone_3 24 rfl rfl
theorem dksX9_stone_5 : cX9_stone.data.toList.drop 117 = dktX9_stone_5 := dk_seg dksX9_stone_4 24 rfl rfl
theorem dksX9_stone_6 : cX9_stone.data.toList.drop 141 = dktX9_stone_6 := dk_seg dksX9_stone_5 24 rfl rfl
theorem dksX9_stone_7 : cX9_stone.data.toList.drop 165 = dktX9_stone_7 := dk_seg dksX9_stone_6 24 rfl rfl
theorem dksX9_stone_8 : cX9_stone.data.toList.drop 189 = dktX9_stone_8 := dk_seg dksX9_stone_7 24 rfl rfl
theorem dksX9_stone_9 : cX9_stone.data.toList.drop 211 = dktX9_stone_9 := dk_seg dksX9_stone_8 22 rfl rfl
theorem dX9_stone_0 : decode cX9_stone 0 = .ok (.aload_n 0, 1) := dk_42 (dk_at dksX9_stone_0 0 rfl rfl)
theorem dX9_stone_1 : decode cX9_stone 1 = .ok (.aload_n 0, 1) := dk_42 (dk_at dksX9_stone_0 1 rfl rfl)
theorem dX9_stone_2 : decode cX9_stone 2 = .ok (.getfield 18, 3) := dk_180 0 18 (dk_at dksX9_stone_0 2 rfl rfl)
theorem dX9_stone_5 : decode cX9_stone 5 = .ok (.getfield 176, 3) := dk_180 0 176 (dk_at dksX9_stone_0 5 rfl rfl)
theorem dX9_stone_8 : decode cX9_stone 8 = .ok (.invokevirtual 163, 3) := dk_182 0 163 (dk_at dksX9_stone_0 8 rfl rfl)
theorem dX9_stone_11 : decode cX9_stone 11 = .ok (.bipush 8, 2) := dk_16 8 (dk_at dksX9_stone_0 11 rfl rfl)
theorem dX9_stone_13 : decode cX9_stone 13 = .ok (.if_icmp .ne 7, 3) := dk_160 0 7 (dk_at dksX9_stone_0 13 rfl rfl)
theorem dX9_stone_16 : decode cX9_stone 16 = .ok (.iconst 1, 1) := dk_4 (dk_at dksX9_stone_0 16 rfl rfl)
theorem dX9_stone_17 : decode cX9_stone 17 = .ok (.goto 4, 3) := dk_167 0 4 (dk_at dksX9_stone_0 17 rfl rfl)
theorem dX9_stone_20 : decode cX9_stone 20 = .ok (.iconst 0, 1) := dk_3 (dk_at dksX9_stone_0 20 rfl rfl)
theorem dX9_stone_21 : decode cX9_stone 21 = .ok (.invokevirtual 165, 3) := dk_182 0 165 (dk_at dksX9_stone_0 21 rfl rfl)
theorem dX9_stone_24 : decode cX9_stone 24 = .ok (.aload_n 0, 1) := dk_42 (dk_at dksX9_stone_1 0 rfl rfl)
theorem dX9_stone_25 : decode cX9_stone 25 = .ok (.iconst 0, 1) := dk_3 (dk_at dksX9_stone_1 1 rfl rfl)
theorem dX9_stone_26 : decode cX9_stone 26 = .ok (.bipush 7, 2) := dk_16 7 (dk_at dksX9_stone_1 2 rfl rfl)
theorem dX9_stone_28 : decode cX9_stone 28 = .ok (.invokevirtual 139, 3) := dk_182 0 139 (dk_at dksX9_stone_1 4 rfl rfl)
theorem dX9_stone_31 : decode cX9_stone 31 = .ok (.istore_n 1, 1) := dk_60 (dk_at dksX9_stone_1 7 rfl rfl)
theorem dX9_stone_32 : decode cX9_stone 32 = .ok (.aload_n 0, 1) := dk_42 (dk_at dksX9_stone_1 8 rfl rfl)
theorem dX9_stone_33 : decode cX9_stone 33 = .ok (.ldc 179, 2) := dk_18 179 (dk_at dksX9_stone_1 9 rfl rfl)
theorem dX9_stone_35 : decode cX9_stone 35 = .ok (.invokevirtual 180, 3) := dk_182 0 180 (dk_at dksX9_stone_1 11 rfl rfl)
theorem dX9_stone_38 : decode cX9_stone 38 = .ok (.aload_n 0, 1) := dk_42 (dk_at dksX9_stone_1 14 rfl rfl)
theorem dX9_stone_39 : decode cX9_stone 39 = .ok (.iconst 1, 1) := dk_4 (dk_at dksX9_stone_1 15 rfl rfl)
theorem dX9_stone_40 : decode cX9_stone 40 = .ok (.bipush 9, 2) := dk_16 9 (dk_at dksX9_stone_1 16 rfl rfl)
theorem dX9_stone_42 : decode cX9_stone 42 = .ok (.invokevirtual 139, 3) := dk_182 0 139 (dk_at dksX9_stone_1 18 rfl rfl)
theorem dX9_stone_45 : decode cX9_stone 45 = .ok (.istore_n 2, 1) := dk_61 (dk_at dksX9_stone_1 21 rfl rfl)
theorem dX9_stone_46 : decode cX9_stone 46 = .ok (.aload_n 0, 1) := dk_42 (dk_at dksX9_stone_1 22 rfl rfl)
theorem dX9_stone_47 : decode cX9_stone 47 = .ok (.ldc 184, 2) := dk_18 184 (dk_at dksX9_stone_2 0 rfl rfl)
theorem dX9_stone_49 : decode cX9_stone 49 = .ok (.invokevirtual 180, 3) := dk_182 0 180 (dk_at dksX9_stone_2 2 rfl rfl)
theorem dX9_stone_52 : decode cX9_stone 52 = .ok (.aload_n 0, 1) := dk_42 (dk_at dksX9_stone_2 5 rfl rfl)
theorem dX9_stone_53 : decode cX9_stone 53 = .ok (.iconst 0, 1) := dk_3 (dk_at dksX9_stone_2 6 rfl rfl)
theorem dX9_stone_54 : decode cX9_stone 54 = .ok (.aload_n 0, 1) := dk_42 (dk_at dksX9_stone_2 7 rfl rfl)
theorem dX9_stone_55 : decode cX9_stone 55 = .ok (.getfield 18, 3) := dk_180 0 18 (dk_at dksX9_stone_2 8 rfl rfl)
theorem dX9_stone_58 : decode cX9_stone 58 = .ok (.getfield 160, 3) := dk_180 0 160 (dk_at dksX9_stone_2 11 rfl rfl)
theorem dX9_stone_61 : decode cX9_stone 61 = .ok (.invokevirtual 163, 3) := dk_182 0 163 (dk_at dksX9_stone_2 14 rfl rfl)
theorem dX9_stone_64 : decode cX9_stone 64 = .ok (.iconst 1, 1) := dk_4 (dk_at dksX9_stone_2 17 rfl rfl)
theorem dX9_stone_65 : decode cX9_stone 65 = .ok (.isub, 1) := dk_100 (dk_at dksX9_stone_2 18 rfl rfl)
theorem dX9_stone_66 : decode cX9_stone 66 = .ok (.invokevirtual 103, 3) := dk_182 0 103 (dk_at dksX9_stone_2 19 rfl rfl)
theorem dX9_stone_69 : decode cX9_stone 69 = .ok (.ifCond .eq 51, 3) := dk_153 0 51 (dk_at dksX9_stone_3 0 rfl rfl)
theorem dX9_stone_72 : decode cX9_stone 72 = .ok (.aload_n 0, 1) := dk_42 (dk_at dksX9_stone_3 3 rfl rfl)
theorem dX9_stone_73 : decode cX9_stone 73 = .ok (.getfield 18, 3) := dk_180 0 18 (dk_at dksX9_stone_3 4 rfl rfl)
theorem dX9_stone_76 : decode cX9_stone 76 = .ok (.getfield 160, 3) := dk_180 0 160 (dk_at dksX9_stone_3 7 rfl rfl)
theorem dX9_stone_79 : decode cX9_stone 79 = .ok (.aload_n 0, 1) := dk_42 (dk_at dksX9_stone_3 10 rfl rfl)
theorem dX9_stone_80 : decode cX9_stone 80 = .ok (.getfield 74, 3) := dk_180 0 74 (dk_at dksX9_stone_3 11 rfl rfl)
theorem dX9_stone_83 : decode cX9_stone 83 = .ok (.invokevirtual 185, 3) := dk_182 0 185 (dk_at dksX9_stone_3 14 rfl rfl)
theorem dX9_stone_86 : decode cX9_stone 86 = .ok (.checkcast 169, 3) := dk_192 0 169 (dk_at dksX9_stone_3 17 rfl rfl)
theorem dX9_stone_89 : decode cX9_stone 89 = .ok (.getfield 189, 3) := dk_180 0 189 (dk_at dksX9_stone_3 20 rfl rfl)
theorem dX9_stone_92 : decode cX9_stone 92 = .ok (.aload_n 0, 1) := dk_42 (dk_at dksX9_stone_3 23 rfl rfl)
theorem dX9_stone_93 : decode cX9_stone 93 = .ok (.getfield 18, 3) := dk_180 0 18 (dk_at dksX9_stone_4 0 rfl rfl)
theorem dX9_stone_96 : decode cX9_stone 96 = .ok (.getfield 160, 3) := dk_180 0 160 (dk_at dksX9_stone_4 3 rfl rfl)
theorem dX9_stone_99 : decode cX9_stone 99 = .ok (.aload_n 0, 1) := dk_42 (dk_at dksX9_stone_4 6 rfl rfl)
theorem dX9_stone_100 : decode cX9_stone 100 = .ok (.getfield 74, 3) := dk_180 0 74 (dk_at dksX9_stone_4 7 rfl rfl)
theorem dX9_stone_103 : decode cX9_stone 103 = .ok (.invokevirtual 185, 3) := dk_182 0 185 (dk_at dksX9_stone_4 10 rfl rfl)
theorem dX9_stone_106 : decode cX9_stone 106 = .ok (.checkcast 169, 3) := dk_192 0 169 (dk_at dksX9_stone_4 13 rfl rfl)
theorem dX9_stone_109 : decode cX9_stone 109 = .ok (.getfield 192, 3) := dk_180 0 192 (dk_at dksX9_stone_4 16 rfl rfl)
theorem dX9_stone_112 : decode cX9_stone 112 = .ok (.if_icmp .ne 8, 3) := dk_160 0 8 (dk_at dksX9_stone_4 19 rfl rfl)
theorem dX9_stone_115 : decode cX9_stone 115 = .ok (.aload_n 0, 1) := dk_42 (dk_at dksX9_stone_4 22 rfl rfl)
theorem dX9_stone_116 : decode cX9_stone 116 = .ok (.iconst 3, 1) := dk_6 (dk_at dksX9_stone_4 23 rfl rfl)
theorem dX9_stone_117 : decode cX9_stone 117 = .ok (.invokevirtual 100, 3) := dk_182 0 100 (dk_at dksX9_stone_5 0 rfl rfl)
theorem dX9_stone_120 : decode cX9_stone 120 = .ok (.aload_n 0, 1) := dk_42 (dk_at dksX9_stone_5 3 rfl rfl)
theorem dX9_stone_121 : decode cX9_stone 121 = .ok (.iconst 0, 1) := dk_3 (dk_at dksX9_stone_5 4 rfl rfl)
theorem dX9_stone_122 : decode cX9_stone 122 = .ok (.aload_n 0, 1) := dk_42 (dk_at dksX9_stone_5 5 rfl rfl)
theorem dX9_stone_123 : decode cX9_stone 123 = .ok (.getfield 18, 3) := dk_180 0 18 (dk_at dksX9_stone_5 6 rfl rfl)
theorem dX9_stone_126 : decode cX9_stone 126 = .ok (.getfield 160, 3) := dk_180 0 160 (dk_at dksX9_stone_5 9 rfl rfl)
theorem dX9_stone_129 : decode cX9_stone 129 = .ok (.invokevirtual 163, 3) := dk_182 0 163 (dk_at dksX9_stone_5 12 rfl rfl)
theorem dX9_stone_132 : decode cX9_stone 132 = .ok (.iconst 1, 1) := dk_4 (dk_at dksX9_stone_5 15 rfl rfl)
theorem dX9_stone_133 : decode cX9_stone 133 = .ok (.isub, 1) := dk_100 (dk_at dksX9_stone_5 16 rfl rfl)
theorem dX9_stone_134 : decode cX9_stone 134 = .ok (.invokevirtual 139, 3) := dk_182 0 139 (dk_at dksX9_stone_5 17 rfl rfl)
theorem dX9_stone_137 : decode cX9_stone 137 = .ok (.istore_n 3, 1) := dk_62 (dk_at dksX9_stone_5 20 rfl rfl)
theorem dX9_stone_138 : decode cX9_stone 138 = .ok (.aload_n 0, 1) := dk_42 (dk_at dksX9_stone_5 21 rfl rfl)
theorem dX9_stone_139 : decode cX9_stone 139 = .ok (.ldc 195, 2) := dk_18 195 (dk_at dksX9_stone_5 22 rfl rfl)
theorem dX9_stone_141 : decode cX9_stone 141 = .ok (.invokevirtual 97, 3) := dk_182 0 97 (dk_at dksX9_stone_6 0 rfl rfl)
theorem dX9_stone_144 : decode cX9_stone 144 = .ok (.ifCond .eq 13, 3) := dk_153 0 13 (dk_at dksX9_stone_6 3 rfl rfl)
theorem dX9_stone_147 : decode cX9_stone 147 = .ok (.aload_n 0, 1) := dk_42 (dk_at dksX9_stone_6 6 rfl rfl)
theorem dX9_stone_148 : decode cX9_stone 148 = .ok (.iconst 0, 1) := dk_3 (dk_at dksX9_stone_6 7 rfl rfl)
theorem dX9_stone_149 : decode cX9_stone 149 = .ok (.bipush 99, 2) := dk_16 99 (dk_at dksX9_stone_6 8 rfl rfl)
theorem dX9_stone_151 : decode cX9_stone 151 = .ok (.invokevirtual 139, 3) := dk_182 0 139 (dk_at dksX9_stone_6 10 rfl rfl)
theorem dX9_stone_154 : decode cX9_stone 154 = .ok (.goto 5, 3) := dk_167 0 5 (dk_at dksX9_stone_6 13 rfl rfl)
theorem dX9_stone_157 : decode cX9_stone 157 = .ok (.bipush 99, 2) := dk_16 99 (dk_at dksX9_stone_6 16 rfl rfl)
theorem dX9_stone_159 : decode cX9_stone 159 = .ok (.istore 4, 2) := dk_54 4 (dk_at dksX9_stone_6 18 rfl rfl)
theorem dX9_stone_161 : decode cX9_stone 161 = .ok (.aload_n 0, 1) := dk_42 (dk_at dksX9_stone_6 20 rfl rfl)
theorem dX9_stone_162 : decode cX9_stone 162 = .ok (.getfield 77, 3) := dk_180 0 77 (dk_at dksX9_stone_6 21 rfl rfl)
theorem dX9_stone_165 : decode cX9_stone 165 = .ok (.ifCond .eq 4, 3) := dk_153 0 4 (dk_at dksX9_stone_7 0 rfl rfl)
theorem dX9_stone_168 : decode cX9_stone 168 = .ok (.return_, 1) := dk_177 (dk_at dksX9_stone_7 3 rfl rfl)
theorem dX9_stone_169 : decode cX9_stone 169 = .ok (.aload_n 0, 1) := dk_42 (dk_at dksX9_stone_7 4 rfl rfl)
theorem dX9_stone_170 : decode cX9_stone 170 = .ok (.getfield 18, 3) := dk_180 0 18 (dk_at dksX9_stone_7 5 rfl rfl)
theorem dX9_stone_173 : decode cX9_stone 173 = .ok (.getfield 160, 3) := dk_180 0 160 (dk_at dksX9_stone_7 8 rfl rfl)
theorem dX9_stone_176 : decode cX9_stone 176 = .ok (.iload_n 3, 1) := dk_29 (dk_at dksX9_stone_7 11 rfl rfl)
theorem dX9_stone_177 : decode cX9_stone 177 = .ok (.invokevirtual 185, 3) := dk_182 0 185 (dk_at dksX9_stone_7 12 rfl rfl)
theorem dX9_stone_180 : decode cX9_stone 180 = .ok (.checkcast 169, 3) := dk_192 0 169 (dk_at dksX9_stone_7 15 rfl rfl)
theorem dX9_stone_183 : decode cX9_stone 183 = .ok (.dup, 1) := dk_89 (dk_at dksX9_stone_7 18 rfl rfl)
theorem dX9_stone_184 : decode cX9_stone 184 = .ok (.getfield 189, 3) := dk_180 0 189 (dk_at dksX9_stone_7 19 rfl rfl)
theorem dX9_stone_187 : decode cX9_stone 187 = .ok (.iconst 1, 1) := dk_4 (dk_at dksX9_stone_7 22 rfl rfl)
theorem dX9_stone_188 : decode cX9_stone 188 = .ok (.iadd, 1) := dk_96 (dk_at dksX9_stone_7 23 rfl rfl)
theorem dX9_stone_189 : decode cX9_stone 189 = .ok (.putfield 189, 3) := dk_181 0 189 (dk_at dksX9_stone_8 0 rfl rfl)
theorem dX9_stone_192 : decode cX9_stone 192 = .ok (.aload_n 0, 1) := dk_42 (dk_at dksX9_stone_8 3 rfl rfl)
theorem dX9_stone_193 : decode cX9_stone 193 = .ok (.getfield 18, 3) := dk_180 0 18 (dk_at dksX9_stone_8 4 rfl rfl)
theorem dX9_stone_196 : decode cX9_stone 196 = .ok (.getfield 176, 3) := dk_180 0 176 (dk_at dksX9_stone_8 7 rfl rfl)
theorem dX9_stone_199 : decode cX9_stone 199 = .ok (.new 197, 3) := dk_187 0 197 (dk_at dksX9_stone_8 10 rfl rfl)
theorem dX9_stone_202 : decode cX9_stone 202 = .ok (.dup, 1) := dk_89 (dk_at dksX9_stone_8 13 rfl rfl)
theorem dX9_stone_203 : decode cX9_stone 203 = .ok (.iload_n 1, 1) := dk_27 (dk_at dksX9_stone_8 14 rfl rfl)
theorem dX9_stone_204 : decode cX9_stone 204 = .ok (.iload_n 2, 1) := dk_28 (dk_at dksX9_stone_8 15 rfl rfl)
theorem dX9_stone_205 : decode cX9_stone 205 = .ok (.iload_n 3, 1) := dk_29 (dk_at dksX9_stone_8 16 rfl rfl)
theorem dX9_stone_206 : decode cX9_stone 206 = .ok (.iload 4, 2) := dk_21 4 (dk_at dksX9_stone_8 17 rfl rfl)
theorem dX9_stone_208 : decode cX9_stone 208 = .ok (.invokespecial 199, 3) := dk_183 0 199 (dk_at dksX9_stone_8 19 rfl rfl)
theorem dX9_stone_211 : decode cX9_stone 211 = .ok (.invokevirtual 172, 3) := dk_182 0 172 (dk_at dksX9_stone_9 0 rfl rfl)
theorem dX9_stone_214 : decode cX9_stone 214 = .ok (.pop, 1) := dk_87 (dk_at dksX9_stone_9 3 rfl rfl)
theorem dX9_stone_215 : decode cX9_stone 215 = .ok (.return_, 1) := dk_177 (dk_at dksX9_stone_9 4 rfl rfl)
abbrev cX9_need : ByteArray := prog_11_method_9_code
def yX9_need : MethodName := ⟨RX9, "need", "(Ljava/lang/String;)V"⟩
def dkwX9_need_0 : List UInt8 := [42, 43, 182, 0, 97, 154, 0, 8, 42, 5, 182, 0, 100, 177]
abbrev dktX9_need_0 : List UInt8 := dkwX9_need_0 ++ []
theorem dksX9_need_0 : cX9_need.data.toList.drop 0 = dktX9_need_0 := by decide +kernel
theorem dX9_need_0 : decode cX9_need 0 = .ok (.aload_n 0, 1) := dk_42 (dk_at dksX9_need_0 0 rfl rfl)
theorem dX9_need_1 : decode cX9_need 1 = .ok (.aload_n 1, 1) := dk_43 (dk_at dksX9_need_0 1 rfl rfl)
theorem dX9_need_2 : decode cX9_need 2 = .ok (.invokevirtual 97, 3) := dk_182 0 97 (dk_at dksX9_need_0 2 rfl rfl)
theorem dX9_need_5 : decode cX9_need 5 = .ok (.ifCond .ne 8, 3) := dk_154 0 8 (dk_at dksX9_need_0 5 rfl rfl)
theorem dX9_need_8 : decode cX9_need 8 = .ok (.aload_n 0, 1) := dk_42 (dk_at dksX9_need_0 8 rfl rfl)
theorem dX9_need_9 : decode cX9_need 9 = .ok (.iconst 2, 1) := dk_5 (dk_at dksX9_need_0 9 rfl rfl)
theorem dX9_need_10 : decode cX9_need 10 = .ok (.invokevirtual 100, 3) := dk_182 0 100 (dk_at dksX9_need_0 10 rfl rfl)
theorem dX9_need_13 : decode cX9_need 13 = .ok (.return_, 1) := dk_177 (dk_at dksX9_need_0 13 rfl rfl)
abbrev cX9_takes : ByteArray := prog_11_method_8_code
def yX9_takes : MethodName := ⟨RX9, "takes", "(Ljava/lang/String;)Z"⟩
def dkwX9_takes_0 : List UInt8 := [42, 43, 182, 0, 90, 154, 0, 5, 3, 172, 42, 182, 0, 94, 4, 172]
abbrev dktX9_takes_0 : List UInt8 := dkwX9_takes_0 ++ []
theorem dksX9_takes_0 : cX9_takes.data.toList.drop 0 = dktX9_takes_0 := by decide +kernel
theorem dX9_takes_0 : decode cX9_takes 0 = .ok (.aload_n 0, 1) := dk_42 (dk_at dksX9_takes_0 0 rfl rfl)
theorem dX9_takes_1 : decode cX9_takes 1 = .ok (.aload_n 1, 1) := dk_43 (dk_at dksX9_takes_0 1 rfl rfl)
theorem dX9_takes_2 : decode cX9_takes 2 = .ok (.invokevirtual 90, 3) := dk_182 0 90 (dk_at dksX9_takes_0 2 rfl rfl)
theorem dX9_takes_5 : decode cX9_takes 5 = .ok (.ifCond .ne 5, 3) := dk_154 0 5 (dk_at dksX9_takes_0 5 rfl rfl)
theorem dX9_takes_8 : decode cX9_takes 8 = .ok (.iconst 0, 1) := dk_3 (dk_at dksX9_takes_0 8 rfl rfl)
theorem dX9_takes_9 : decode cX9_takes 9 = .ok (.ireturn, 1) := dk_172 (dk_at dksX9_takes_0 9 rfl rfl)
theorem dX9_takes_10 : decode cX9_takes 10 = .ok (.aload_n 0, 1) := dk_42 (dk_at dksX9_takes_0 10 rfl rfl)
theorem dX9_takes_11 : decode cX9_takes 11 = .ok (.invokevirtual 94, 3) := dk_182 0 94 (dk_at dksX9_takes_0 11 rfl rfl)
theorem dX9_takes_14 : decode cX9_takes 14 = .ok (.iconst 1, 1) := dk_4 (dk_at dksX9_takes_0 14 rfl rfl)
theorem dX9_takes_15 : decode cX9_takes 15 = .ok (.ireturn, 1) := dk_172 (dk_at dksX9_takes_0 15 rfl rfl)
abbrev cX9_wish : ByteArray := prog_11_method_19_code
def yX9_wish : MethodName := ⟨RX9, "wish", "()V"⟩
def dkwX9_wish_8 : List UInt8 := [21, 4, 181, 0, 202, 45, 28, 181, 0, 212, 177]
abbrev dktX9_wish_8 : List UInt8 := dkwX9_wish_8 ++ []
def dkwX9_wish_7 : List UInt8 := [180, 0, 77, 153, 0, 4, 177, 45, 180, 0, 209, 21, 4, 21, 5, 79, 132, 4, 1, 167, 255, 198, 45]
abbrev dktX9_wish_7 : List UInt8 := dkwX9_wish_7 ++ dktX9_wish_8
def dkwX9_wish_6 : List UInt8 := [45, 180, 0, 192, 160, 0, 8, 42, 6, 182, 0, 100, 42, 3, 16, 7, 182, 0, 139, 54, 5, 42]
abbrev dktX9_wish_6 : List UInt8 := dkwX9_wish_6 ++ dktX9_wish_7
def dkwX9_wish_5 : List UInt8 := [192, 0, 169, 78, 3, 54, 4, 42, 180, 0, 77, 154, 0, 57, 42, 180, 0, 64, 5, 160, 0, 49, 21, 4]
abbrev dktX9_wish_5 : List UInt8 := dkwX9_wish_5 ++ dktX9_wish_6
def dkwX9_wish_4 : List UInt8 := [182, 0, 180, 42, 180, 0, 77, 153, 0, 4, 177, 42, 180, 0, 18, 180, 0, 160, 27, 182, 0, 185]
abbrev dktX9_wish_4 : List UInt8 := dkwX9_wish_4 ++ dktX9_wish_5
def dkwX9_wish_3 : List UInt8 := [18, 205, 182, 0, 97, 153, 0, 12, 42, 3, 4, 182, 0, 139, 167, 0, 4, 3, 61, 42, 18, 207]
abbrev dktX9_wish_3 : List UInt8 := dkwX9_wish_3 ++ dktX9_wish_4
def dkwX9_wish_2 : List UInt8 := [42, 6, 182, 0, 100, 42, 3, 42, 180, 0, 18, 180, 0, 160, 182, 0, 163, 4, 100, 182, 0, 139, 60, 42]
abbrev dktX9_wish_2 : List UInt8 := dkwX9_wish_2 ++ dktX9_wish_3
def dkwX9_wish_1 : List UInt8 := [42, 180, 0, 18, 180, 0, 160, 42, 180, 0, 74, 182, 0, 185, 192, 0, 169, 180, 0, 202, 2, 159, 0, 8]
abbrev dktX9_wish_1 : List UInt8 := dkwX9_wish_1 ++ dktX9_wish_2
def dkwX9_wish_0 : List UInt8 := [42, 182, 0, 94, 42, 3, 42, 180, 0, 18, 180, 0, 160, 182, 0, 163, 4, 100, 182, 0, 103, 153, 0, 32]
abbrev dktX9_wish_0 : List UInt8 := dkwX9_wish_0 ++ dktX9_wish_1
theorem dksX9_wish_0 : cX9_wish.data.toList.drop 0 = dktX9_wish_0 := by decide +kernel
theorem dksX9_wish_1 : cX9_wish.data.toList.drop 24 = dktX9_wish_1 := dk_seg dksX9_wish_0 24 rfl rfl
theorem dksX9_wish_2 : cX9_wish.data.toList.drop 48 = dktX9_wish_2 := dk_seg dksX9_wish_1 24 rfl rfl
theorem dksX9_wish_3 : cX9_wish.data.toList.drop 72 = dktX9_wish_3 := dk_seg dksX9_wish_2 24 rfl rfl
theorem dksX9_wish_4 : cX9_wish.data.toList.drop 94 = dktX9_wish_4 := dk_seg dksX9_wish_3 22 rfl rfl
theorem dksX9_wish_5 : cX9_wish.data.toList.drop 116 = dktX9_wish_5 := dk_seg dksX9_wish_4 22 rfl rfl
theorem dksX9_wish_6 : cX9_wish.data.toList.drop 140 = dktX9_wish_6 := dk_seg dksX9_wish_5 24 rfl rfl
theorem dksX9_wish_7 : cX9_wish.data.toList.drop 162 = dktX9_wish_7 := dk_seg dksX9_wish_6 22 rfl rfl
theorem dksX9_wish_8 : cX9_wish.data.toList.drop 185 = dktX9_wish_8 := dk_seg dksX9_wish_7 23 rfl rfl
theorem dX9_wish_0 : decode cX9_wish 0 = .ok (.aload_n 0, 1) := dk_42 (dk_at dksX9_wish_0 0 rfl rfl)
theorem dX9_wish_1 : decode cX9_wish 1 = .ok (.invokevirtual 94, 3) := dk_182 0 94 (dk_at dksX9_wish_0 1 rfl rfl)
theorem dX9_wish_4 : decode cX9_wish 4 = .ok (.aload_n 0, 1) := dk_42 (dk_at dksX9_wish_0 4 rfl rfl)
theorem dX9_wish_5 : decode cX9_wish 5 = .ok (.iconst 0, 1) := dk_3 (dk_at dksX9_wish_0 5 rfl rfl)
theorem dX9_wish_6 : decode cX9_wish 6 = .ok (.aload_n 0, 1) := dk_42 (dk_at dksX9_wish_0 6 rfl rfl)
theorem dX9_wish_7 : decode cX9_wish 7 = .ok (.getfield 18, 3) := dk_180 0 18 (dk_at dksX9_wish_0 7 rfl rfl)
theorem dX9_wish_10 : decode cX9_wish 10 = .ok (.getfield 160, 3) := dk_180 0 160 (dk_at dksX9_wish_0 10 rfl rfl)
theorem dX9_wish_13 : decode cX9_wish 13 = .ok (.invokevirtual 163, 3) := dk_182 0 163 (dk_at dksX9_wish_0 13 rfl rfl)
theorem dX9_wish_16 : decode cX9_wish 16 = .ok (.iconst 1, 1) := dk_4 (dk_at dksX9_wish_0 16 rfl rfl)
theorem dX9_wish_17 : decode cX9_wish 17 = .ok (.isub, 1) := dk_100 (dk_at dksX9_wish_0 17 rfl rfl)
theorem dX9_wish_18 : decode cX9_wish 18 = .ok (.invokevirtual 103, 3) := dk_182 0 103 (dk_at dksX9_wish_0 18 rfl rfl)
theorem dX9_wish_21 : decode cX9_wish 21 = .ok (.ifCond .eq 32, 3) := dk_153 0 32 (dk_at dksX9_wish_0 21 rfl rfl)
theorem dX9_wish_24 : decode cX9_wish 24 = .ok (.aload_n 0, 1) := dk_42 (dk_at dksX9_wish_1 0 rfl rfl)
theorem dX9_wish_25 : decode cX9_wish 25 = .ok (.getfield 18, 3) := dk_180 0 18 (dk_at dksX9_wish_1 1 rfl rfl)
theorem dX9_wish_28 : decode cX9_wish 28 = .ok (.getfield 160, 3) := dk_180 0 160 (dk_at dksX9_wish_1 4 rfl rfl)
theorem dX9_wish_31 : decode cX9_wish 31 = .ok (.aload_n 0, 1) := dk_42 (dk_at dksX9_wish_1 7 rfl rfl)
theorem dX9_wish_32 : decode cX9_wish 32 = .ok (.getfield 74, 3) := dk_180 0 74 (dk_at dksX9_wish_1 8 rfl rfl)
theorem dX9_wish_35 : decode cX9_wish 35 = .ok (.invokevirtual 185, 3) := dk_182 0 185 (dk_at dksX9_wish_1 11 rfl rfl)
theorem dX9_wish_38 : decode cX9_wish 38 = .ok (.checkcast 169, 3) := dk_192 0 169 (dk_at dksX9_wish_1 14 rfl rfl)
theorem dX9_wish_41 : decode cX9_wish 41 = .ok (.getfield 202, 3) := dk_180 0 202 (dk_at dksX9_wish_1 17 rfl rfl)
theorem dX9_wish_44 : decode cX9_wish 44 = .ok (.iconst (-1), 1) := dk_2 (dk_at dksX9_wish_1 20 rfl rfl)
theorem dX9_wish_45 : decode cX9_wish 45 = .ok (.if_icmp .eq 8, 3) := dk_159 0 8 (dk_at dksX9_wish_1 21 rfl rfl)
theorem dX9_wish_48 : decode cX9_wish 48 = .ok (.aload_n 0, 1) := dk_42 (dk_at dksX9_wish_2 0 rfl rfl)
theorem dX9_wish_49 : decode cX9_wish 49 = .ok (.iconst 3, 1) := dk_6 (dk_at dksX9_wish_2 1 rfl rfl)
theorem dX9_wish_50 : decode cX9_wish 50 = .ok (.invokevirtual 100, 3) := dk_182 0 100 (dk_at dksX9_wish_2 2 rfl rfl)
theorem dX9_wish_53 : decode cX9_wish 53 = .ok (.aload_n 0, 1) := dk_42 (dk_at dksX9_wish_2 5 rfl rfl)
theorem dX9_wish_54 : decode cX9_wish 54 = .ok (.iconst 0, 1) := dk_3 (dk_at dksX9_wish_2 6 rfl rfl)
theorem dX9_wish_55 : decode cX9_wish 55 = .ok (.aload_n 0, 1) := dk_42 (dk_at dksX9_wish_2 7 rfl rfl)
theorem dX9_wish_56 : decode cX9_wish 56 = .ok (.getfield 18, 3) := dk_180 0 18 (dk_at dksX9_wish_2 8 rfl rfl)
theorem dX9_wish_59 : decode cX9_wish 59 = .ok (.getfield 160, 3) := dk_180 0 160 (dk_at dksX9_wish_2 11 rfl rfl)
theorem dX9_wish_62 : decode cX9_wish 62 = .ok (.invokevirtual 163, 3) := dk_182 0 163 (dk_at dksX9_wish_2 14 rfl rfl)
theorem dX9_wish_65 : decode cX9_wish 65 = .ok (.iconst 1, 1) := dk_4 (dk_at dksX9_wish_2 17 rfl rfl)
theorem dX9_wish_66 : decode cX9_wish 66 = .ok (.isub, 1) := dk_100 (dk_at dksX9_wish_2 18 rfl rfl)
theorem dX9_wish_67 : decode cX9_wish 67 = .ok (.invokevirtual 139, 3) := dk_182 0 139 (dk_at dksX9_wish_2 19 rfl rfl)
theorem dX9_wish_70 : decode cX9_wish 70 = .ok (.istore_n 1, 1) := dk_60 (dk_at dksX9_wish_2 22 rfl rfl)
theorem dX9_wish_71 : decode cX9_wish 71 = .ok (.aload_n 0, 1) := dk_42 (dk_at dksX9_wish_2 23 rfl rfl)
theorem dX9_wish_72 : decode cX9_wish 72 = .ok (.ldc 205, 2) := dk_18 205 (dk_at dksX9_wish_3 0 rfl rfl)
theorem dX9_wish_74 : decode cX9_wish 74 = .ok (.invokevirtual 97, 3) := dk_182 0 97 (dk_at dksX9_wish_3 2 rfl rfl)
theorem dX9_wish_77 : decode cX9_wish 77 = .ok (.ifCond .eq 12, 3) := dk_153 0 12 (dk_at dksX9_wish_3 5 rfl rfl)
theorem dX9_wish_80 : decode cX9_wish 80 = .ok (.aload_n 0, 1) := dk_42 (dk_at dksX9_wish_3 8 rfl rfl)
theorem dX9_wish_81 : decode cX9_wish 81 = .ok (.iconst 0, 1) := dk_3 (dk_at dksX9_wish_3 9 rfl rfl)
theorem dX9_wish_82 : decode cX9_wish 82 = .ok (.iconst 1, 1) := dk_4 (dk_at dksX9_wish_3 10 rfl rfl)
theorem dX9_wish_83 : decode cX9_wish 83 = .ok (.invokevirtual 139, 3) := dk_182 0 139 (dk_at dksX9_wish_3 11 rfl rfl)
theorem dX9_wish_86 : decode cX9_wish 86 = .ok (.goto 4, 3) := dk_167 0 4 (dk_at dksX9_wish_3 14 rfl rfl)
theorem dX9_wish_89 : decode cX9_wish 89 = .ok (.iconst 0, 1) := dk_3 (dk_at dksX9_wish_3 17 rfl rfl)
theorem dX9_wish_90 : decode cX9_wish 90 = .ok (.istore_n 2, 1) := dk_61 (dk_at dksX9_wish_3 18 rfl rfl)
theorem dX9_wish_91 : decode cX9_wish 91 = .ok (.aload_n 0, 1) := dk_42 (dk_at dksX9_wish_3 19 rfl rfl)
theorem dX9_wish_92 : decode cX9_wish 92 = .ok (.ldc 207, 2) := dk_18 207 (dk_at dksX9_wish_3 20 rfl rfl)
theorem dX9_wish_94 : decode cX9_wish 94 = .ok (.invokevirtual 180, 3) := dk_182 0 180 (dk_at dksX9_wish_4 0 rfl rfl)
theorem dX9_wish_97 : decode cX9_wish 97 = .ok (.aload_n 0, 1) := dk_42 (dk_at dksX9_wish_4 3 rfl rfl)
theorem dX9_wish_98 : decode cX9_wish 98 = .ok (.getfield 77, 3) := dk_180 0 77 (dk_at dksX9_wish_4 4 rfl rfl)
theorem dX9_wish_101 : decode cX9_wish 101 = .ok (.ifCond .eq 4, 3) := dk_153 0 4 (dk_at dksX9_wish_4 7 rfl rfl)
theorem dX9_wish_104 : decode cX9_wish 104 = .ok (.return_, 1) := dk_177 (dk_at dksX9_wish_4 10 rfl rfl)
theorem dX9_wish_105 : decode cX9_wish 105 = .ok (.aload_n 0, 1) := dk_42 (dk_at dksX9_wish_4 11 rfl rfl)
theorem dX9_wish_106 : decode cX9_wish 106 = .ok (.getfield 18, 3) := dk_180 0 18 (dk_at dksX9_wish_4 12 rfl rfl)
theorem dX9_wish_109 : decode cX9_wish 109 = .ok (.getfield 160, 3) := dk_180 0 160 (dk_at dksX9_wish_4 15 rfl rfl)
theorem dX9_wish_112 : decode cX9_wish 112 = .ok (.iload_n 1, 1) := dk_27 (dk_at dksX9_wish_4 18 rfl rfl)
theorem dX9_wish_113 : decode cX9_wish 113 = .ok (.invokevirtual 185, 3) := dk_182 0 185 (dk_at dksX9_wish_4 19 rfl rfl)
theorem dX9_wish_116 : decode cX9_wish 116 = .ok (.checkcast 169, 3) := dk_192 0 169 (dk_at dksX9_wish_5 0 rfl rfl)
theorem dX9_wish_119 : decode cX9_wish 119 = .ok (.astore_n 3, 1) := dk_78 (dk_at dksX9_wish_5 3 rfl rfl)
theorem dX9_wish_120 : decode cX9_wish 120 = .ok (.iconst 0, 1) := dk_3 (dk_at dksX9_wish_5 4 rfl rfl)
theorem dX9_wish_121 : decode cX9_wish 121 = .ok (.istore 4, 2) := dk_54 4 (dk_at dksX9_wish_5 5 rfl rfl)
theorem dX9_wish_123 : decode cX9_wish 123 = .ok (.aload_n 0, 1) := dk_42 (dk_at dksX9_wish_5 7 rfl rfl)
theorem dX9_wish_124 : decode cX9_wish 124 = .ok (.getfield 77, 3) := dk_180 0 77 (dk_at dksX9_wish_5 8 rfl rfl)
theorem dX9_wish_127 : decode cX9_wish 127 = .ok (.ifCond .ne 57, 3) := dk_154 0 57 (dk_at dksX9_wish_5 11 rfl rfl)
theorem dX9_wish_130 : decode cX9_wish 130 = .ok (.aload_n 0, 1) := dk_42 (dk_at dksX9_wish_5 14 rfl rfl)
theorem dX9_wish_131 : decode cX9_wish 131 = .ok (.getfield 64, 3) := dk_180 0 64 (dk_at dksX9_wish_5 15 rfl rfl)
theorem dX9_wish_134 : decode cX9_wish 134 = .ok (.iconst 2, 1) := dk_5 (dk_at dksX9_wish_5 18 rfl rfl)
theorem dX9_wish_135 : decode cX9_wish 135 = .ok (.if_icmp .ne 49, 3) := dk_160 0 49 (dk_at dksX9_wish_5 19 rfl rfl)
theorem dX9_wish_138 : decode cX9_wish 138 = .ok (.iload 4, 2) := dk_21 4 (dk_at dksX9_wish_5 22 rfl rfl)
theorem dX9_wish_140 : decode cX9_wish 140 = .ok (.aload_n 3, 1) := dk_45 (dk_at dksX9_wish_6 0 rfl rfl)
theorem dX9_wish_141 : decode cX9_wish 141 = .ok (.getfield 192, 3) := dk_180 0 192 (dk_at dksX9_wish_6 1 rfl rfl)
theorem dX9_wish_144 : decode cX9_wish 144 = .ok (.if_icmp .ne 8, 3) := dk_160 0 8 (dk_at dksX9_wish_6 4 rfl rfl)
theorem dX9_wish_147 : decode cX9_wish 147 = .ok (.aload_n 0, 1) := dk_42 (dk_at dksX9_wish_6 7 rfl rfl)
theorem dX9_wish_148 : decode cX9_wish 148 = .ok (.iconst 3, 1) := dk_6 (dk_at dksX9_wish_6 8 rfl rfl)
theorem dX9_wish_149 : decode cX9_wish 149 = .ok (.invokevirtual 100, 3) := dk_182 0 100 (dk_at dksX9_wish_6 9 rfl rfl)
theorem dX9_wish_152 : decode cX9_wish 152 = .ok (.aload_n 0, 1) := dk_42 (dk_at dksX9_wish_6 12 rfl rfl)
theorem dX9_wish_153 : decode cX9_wish 153 = .ok (.iconst 0, 1) := dk_3 (dk_at dksX9_wish_6 13 rfl rfl)
theorem dX9_wish_154 : decode cX9_wish 154 = .ok (.bipush 7, 2) := dk_16 7 (dk_at dksX9_wish_6 14 rfl rfl)
theorem dX9_wish_156 : decode cX9_wish 156 = .ok (.invokevirtual 139, 3) := dk_182 0 139 (dk_at dksX9_wish_6 16 rfl rfl)
theorem dX9_wish_159 : decode cX9_wish 159 = .ok (.istore 5, 2) := dk_54 5 (dk_at dksX9_wish_6 19 rfl rfl)
theorem dX9_wish_161 : decode cX9_wish 161 = .ok (.aload_n 0, 1) := dk_42 (dk_at dksX9_wish_6 21 rfl rfl)
theorem dX9_wish_162 : decode cX9_wish 162 = .ok (.getfield 77, 3) := dk_180 0 77 (dk_at dksX9_wish_7 0 rfl rfl)
theorem dX9_wish_165 : decode cX9_wish 165 = .ok (.ifCond .eq 4, 3) := dk_153 0 4 (dk_at dksX9_wish_7 3 rfl rfl)
theorem dX9_wish_168 : decode cX9_wish 168 = .ok (.return_, 1) := dk_177 (dk_at dksX9_wish_7 6 rfl rfl)
theorem dX9_wish_169 : decode cX9_wish 169 = .ok (.aload_n 3, 1) := dk_45 (dk_at dksX9_wish_7 7 rfl rfl)
theorem dX9_wish_170 : decode cX9_wish 170 = .ok (.getfield 209, 3) := dk_180 0 209 (dk_at dksX9_wish_7 8 rfl rfl)
theorem dX9_wish_173 : decode cX9_wish 173 = .ok (.iload 4, 2) := dk_21 4 (dk_at dksX9_wish_7 11 rfl rfl)
theorem dX9_wish_175 : decode cX9_wish 175 = .ok (.iload 5, 2) := dk_21 5 (dk_at dksX9_wish_7 13 rfl rfl)
theorem dX9_wish_177 : decode cX9_wish 177 = .ok (.iastore, 1) := dk_79 (dk_at dksX9_wish_7 15 rfl rfl)
theorem dX9_wish_178 : decode cX9_wish 178 = .ok (.iinc 4 1, 3) := dk_132 4 1 (dk_at dksX9_wish_7 16 rfl rfl)
theorem dX9_wish_181 : decode cX9_wish 181 = .ok (.goto (-58), 3) := dk_167 255 198 (dk_at dksX9_wish_7 19 rfl rfl)
theorem dX9_wish_184 : decode cX9_wish 184 = .ok (.aload_n 3, 1) := dk_45 (dk_at dksX9_wish_7 22 rfl rfl)
theorem dX9_wish_185 : decode cX9_wish 185 = .ok (.iload 4, 2) := dk_21 4 (dk_at dksX9_wish_8 0 rfl rfl)
theorem dX9_wish_187 : decode cX9_wish 187 = .ok (.putfield 202, 3) := dk_181 0 202 (dk_at dksX9_wish_8 2 rfl rfl)
theorem dX9_wish_190 : decode cX9_wish 190 = .ok (.aload_n 3, 1) := dk_45 (dk_at dksX9_wish_8 5 rfl rfl)
theorem dX9_wish_191 : decode cX9_wish 191 = .ok (.iload_n 2, 1) := dk_28 (dk_at dksX9_wish_8 6 rfl rfl)
theorem dX9_wish_192 : decode cX9_wish 192 = .ok (.putfield 212, 3) := dk_181 0 212 (dk_at dksX9_wish_8 7 rfl rfl)
theorem dX9_wish_195 : decode cX9_wish 195 = .ok (.return_, 1) := dk_177 (dk_at dksX9_wish_8 10 rfl rfl)
abbrev cX9_must : ByteArray := prog_11_method_20_code
def yX9_must : MethodName := ⟨RX9, "must", "()V"⟩
def dkwX9_must_4 : List UInt8 := [182, 0, 172, 87, 177]
abbrev dktX9_must_4 : List UInt8 := dkwX9_must_4 ++ []
def dkwX9_must_3 : List UInt8 := [153, 0, 15, 187, 0, 218, 89, 28, 29, 183, 0, 220, 167, 0, 12, 187, 0, 223, 89, 28, 29, 183, 0, 225]
abbrev dktX9_must_3 : List UInt8 := dkwX9_must_3 ++ dktX9_must_4
def dkwX9_must_2 : List UInt8 := [61, 42, 3, 6, 182, 0, 139, 62, 42, 180, 0, 77, 154, 0, 39, 42, 180, 0, 18, 180, 0, 215, 27]
abbrev dktX9_must_2 : List UInt8 := dkwX9_must_2 ++ dktX9_must_3
def dkwX9_must_1 : List UInt8 := [167, 0, 4, 3, 182, 0, 165, 42, 3, 42, 180, 0, 18, 180, 0, 160, 182, 0, 163, 4, 100, 182, 0, 139]
abbrev dktX9_must_1 : List UInt8 := dkwX9_must_1 ++ dktX9_must_2
def dkwX9_must_0 : List UInt8 := [42, 18, 128, 182, 0, 90, 60, 42, 42, 180, 0, 18, 180, 0, 215, 182, 0, 163, 16, 6, 160, 0, 7, 4]
abbrev dktX9_must_0 : List UInt8 := dkwX9_must_0 ++ dktX9_must_1
theorem dksX9_must_0 : cX9_must.data.toList.drop 0 = dktX9_must_0 := by decide +kernel
theorem dksX9_must_1 : cX9_must.data.toList.drop 24 = dktX9_must_1 := dk_seg dksX9_must_0 24 rfl rfl
theorem dksX9_must_2 : cX9_must.data.toList.drop 48 = dktX9_must_2 := dk_seg dksX9_must_1 24 rfl rfl
theorem dksX9_must_3 : cX9_must.data.toList.drop 71 = dktX9_must_3 := dk_seg dksX9_must_2 23 rfl rfl
theorem dksX9_must_4 : cX9_must.data.toList.drop 95 = dktX9_must_4 := dk_seg dksX9_must_3 24 rfl rfl
theorem dX9_must_0 : decode cX9_must 0 = .ok (.aload_n 0, 1) := dk_42 (dk_at dksX9_must_0 0 rfl rfl)
theorem dX9_must_1 : decode cX9_must 1 = .ok (.ldc 128, 2) := dk_18 128 (dk_at dksX9_must_0 1 rfl rfl)
theorem dX9_must_3 : decode cX9_must 3 = .ok (.invokevirtual 90, 3) := dk_182 0 90 (dk_at dksX9_must_0 3 rfl rfl)
theorem dX9_must_6 : decode cX9_must 6 = .ok (.istore_n 1, 1) := dk_60 (dk_at dksX9_must_0 6 rfl rfl)
theorem dX9_must_7 : decode cX9_must 7 = .ok (.aload_n 0, 1) := dk_42 (dk_at dksX9_must_0 7 rfl rfl)
theorem dX9_must_8 : decode cX9_must 8 = .ok (.aload_n 0, 1) := dk_42 (dk_at dksX9_must_0 8 rfl rfl)
theorem dX9_must_9 : decode cX9_must 9 = .ok (.getfield 18, 3) := dk_180 0 18 (dk_at dksX9_must_0 9 rfl rfl)
theorem dX9_must_12 : decode cX9_must 12 = .ok (.getfield 215, 3) := dk_180 0 215 (dk_at dksX9_must_0 12 rfl rfl)
theorem dX9_must_15 : decode cX9_must 15 = .ok (.invokevirtual 163, 3) := dk_182 0 163 (dk_at dksX9_must_0 15 rfl rfl)
theorem dX9_must_18 : decode cX9_must 18 = .ok (.bipush 6, 2) := dk_16 6 (dk_at dksX9_must_0 18 rfl rfl)
theorem dX9_must_20 : decode cX9_must 20 = .ok (.if_icmp .ne 7, 3) := dk_160 0 7 (dk_at dksX9_must_0 20 rfl rfl)
theorem dX9_must_23 : decode cX9_must 23 = .ok (.iconst 1, 1) := dk_4 (dk_at dksX9_must_0 23 rfl rfl)
theorem dX9_must_24 : decode cX9_must 24 = .ok (.goto 4, 3) := dk_167 0 4 (dk_at dksX9_must_1 0 rfl rfl)
theorem dX9_must_27 : decode cX9_must 27 = .ok (.iconst 0, 1) := dk_3 (dk_at dksX9_must_1 3 rfl rfl)
theorem dX9_must_28 : decode cX9_must 28 = .ok (.invokevirtual 165, 3) := dk_182 0 165 (dk_at dksX9_must_1 4 rfl rfl)
theorem dX9_must_31 : decode cX9_must 31 = .ok (.aload_n 0, 1) := dk_42 (dk_at dksX9_must_1 7 rfl rfl)
theorem dX9_must_32 : decode cX9_must 32 = .ok (.iconst 0, 1) := dk_3 (dk_at dksX9_must_1 8 rfl rfl)
theorem dX9_must_33 : decode cX9_must 33 = .ok (.aload_n 0, 1) := dk_42 (dk_at dksX9_must_1 9 rfl rfl)
theorem dX9_must_34 : decode cX9_must 34 = .ok (.getfield 18, 3) := dk_180 0 18 (dk_at dksX9_must_1 10 rfl rfl)
theorem dX9_must_37 : decode cX9_must 37 = .ok (.getfield 160, 3) := dk_180 0 160 (dk_at dksX9_must_1 13 rfl rfl)
theorem dX9_must_40 : decode cX9_must 40 = .ok (.invokevirtual 163, 3) := dk_182 0 163 (dk_at dksX9_must_1 16 rfl rfl)
theorem dX9_must_43 : decode cX9_must 43 = .ok (.iconst 1, 1) := dk_4 (dk_at dksX9_must_1 19 rfl rfl)
theorem dX9_must_44 : decode cX9_must 44 = .ok (.isub, 1) := dk_100 (dk_at dksX9_must_1 20 rfl rfl)
theorem dX9_must_45 : decode cX9_must 45 = .ok (.invokevirtual 139, 3) := dk_182 0 139 (dk_at dksX9_must_1 21 rfl rfl)
theorem dX9_must_48 : decode cX9_must 48 = .ok (.istore_n 2, 1) := dk_61 (dk_at dksX9_must_2 0 rfl rfl)
theorem dX9_must_49 : decode cX9_must 49 = .ok (.aload_n 0, 1) := dk_42 (dk_at dksX9_must_2 1 rfl rfl)
theorem dX9_must_50 : decode cX9_must 50 = .ok (.iconst 0, 1) := dk_3 (dk_at dksX9_must_2 2 rfl rfl)
theorem dX9_must_51 : decode cX9_must 51 = .ok (.iconst 3, 1) := dk_6 (dk_at dksX9_must_2 3 rfl rfl)
theorem dX9_must_52 : decode cX9_must 52 = .ok (.invokevirtual 139, 3) := dk_182 0 139 (dk_at dksX9_must_2 4 rfl rfl)
theorem dX9_must_55 : decode cX9_must 55 = .ok (.istore_n 3, 1) := dk_62 (dk_at dksX9_must_2 7 rfl rfl)
theorem dX9_must_56 : decode cX9_must 56 = .ok (.aload_n 0, 1) := dk_42 (dk_at dksX9_must_2 8 rfl rfl)
theorem dX9_must_57 : decode cX9_must 57 = .ok (.getfield 77, 3) := dk_180 0 77 (dk_at dksX9_must_2 9 rfl rfl)
theorem dX9_must_60 : decode cX9_must 60 = .ok (.ifCond .ne 39, 3) := dk_154 0 39 (dk_at dksX9_must_2 12 rfl rfl)
theorem dX9_must_63 : decode cX9_must 63 = .ok (.aload_n 0, 1) := dk_42 (dk_at dksX9_must_2 15 rfl rfl)
theorem dX9_must_64 : decode cX9_must 64 = .ok (.getfield 18, 3) := dk_180 0 18 (dk_at dksX9_must_2 16 rfl rfl)
theorem dX9_must_67 : decode cX9_must 67 = .ok (.getfield 215, 3) := dk_180 0 215 (dk_at dksX9_must_2 19 rfl rfl)
theorem dX9_must_70 : decode cX9_must 70 = .ok (.iload_n 1, 1) := dk_27 (dk_at dksX9_must_2 22 rfl rfl)
theorem dX9_must_71 : decode cX9_must 71 = .ok (.ifCond .eq 15, 3) := dk_153 0 15 (dk_at dksX9_must_3 0 rfl rfl)
theorem dX9_must_74 : decode cX9_must 74 = .ok (.new 218, 3) := dk_187 0 218 (dk_at dksX9_must_3 3 rfl rfl)
theorem dX9_must_77 : decode cX9_must 77 = .ok (.dup, 1) := dk_89 (dk_at dksX9_must_3 6 rfl rfl)
theorem dX9_must_78 : decode cX9_must 78 = .ok (.iload_n 2, 1) := dk_28 (dk_at dksX9_must_3 7 rfl rfl)
theorem dX9_must_79 : decode cX9_must 79 = .ok (.iload_n 3, 1) := dk_29 (dk_at dksX9_must_3 8 rfl rfl)
theorem dX9_must_80 : decode cX9_must 80 = .ok (.invokespecial 220, 3) := dk_183 0 220 (dk_at dksX9_must_3 9 rfl rfl)
theorem dX9_must_83 : decode cX9_must 83 = .ok (.goto 12, 3) := dk_167 0 12 (dk_at dksX9_must_3 12 rfl rfl)
theorem dX9_must_86 : decode cX9_must 86 = .ok (.new 223, 3) := dk_187 0 223 (dk_at dksX9_must_3 15 rfl rfl)
theorem dX9_must_89 : decode cX9_must 89 = .ok (.dup, 1) := dk_89 (dk_at dksX9_must_3 18 rfl rfl)
theorem dX9_must_90 : decode cX9_must 90 = .ok (.iload_n 2, 1) := dk_28 (dk_at dksX9_must_3 19 rfl rfl)
theorem dX9_must_91 : decode cX9_must 91 = .ok (.iload_n 3, 1) := dk_29 (dk_at dksX9_must_3 20 rfl rfl)
theorem dX9_must_92 : decode cX9_must 92 = .ok (.invokespecial 225, 3) := dk_183 0 225 (dk_at dksX9_must_3 21 rfl rfl)
theorem dX9_must_95 : decode cX9_must 95 = .ok (.invokevirtual 172, 3) := dk_182 0 172 (dk_at dksX9_must_4 0 rfl rfl)
theorem dX9_must_98 : decode cX9_must 98 = .ok (.pop, 1) := dk_87 (dk_at dksX9_must_4 3 rfl rfl)
theorem dX9_must_99 : decode cX9_must 99 = .ok (.return_, 1) := dk_177 (dk_at dksX9_must_4 4 rfl rfl)
abbrev cX9_more : ByteArray := prog_11_method_16_code
def yX9_more : MethodName := ⟨RX9, "more", "()V"⟩
def dkwX9_more_4 : List UInt8 := [5, 182, 0, 100, 177]
abbrev dktX9_more_4 : List UInt8 := dkwX9_more_4 ++ []
def dkwX9_more_3 : List UInt8 := [167, 0, 28, 42, 18, 155, 182, 0, 97, 153, 0, 14, 42, 180, 0, 18, 4, 181, 0, 157, 167, 0, 8, 42]
abbrev dktX9_more_3 : List UInt8 := dkwX9_more_3 ++ dktX9_more_4
def dkwX9_more_2 : List UInt8 := [181, 0, 147, 167, 0, 48, 42, 18, 149, 182, 0, 97, 153, 0, 14, 42, 180, 0, 18, 4, 181, 0, 151]
abbrev dktX9_more_2 : List UInt8 := dkwX9_more_2 ++ dktX9_more_3
def dkwX9_more_1 : List UInt8 := [167, 0, 74, 42, 18, 145, 182, 0, 97, 153, 0, 20, 42, 180, 0, 18, 42, 4, 16, 8, 182, 0, 139]
abbrev dktX9_more_1 : List UInt8 := dkwX9_more_1 ++ dktX9_more_2
def dkwX9_more_0 : List UInt8 := [42, 18, 138, 182, 0, 97, 153, 0, 19, 42, 180, 0, 18, 42, 4, 6, 182, 0, 139, 181, 0, 143]
abbrev dktX9_more_0 : List UInt8 := dkwX9_more_0 ++ dktX9_more_1
theorem dksX9_more_0 : cX9_more.data.toList.drop 0 = dktX9_more_0 := by decide +kernel
theorem dksX9_more_1 : cX9_more.data.toList.drop 22 = dktX9_more_1 := dk_seg dksX9_more_0 22 rfl rfl
theorem dksX9_more_2 : cX9_more.data.toList.drop 45 = dktX9_more_2 := dk_seg dksX9_more_1 23 rfl rfl
theorem dksX9_more_3 : cX9_more.data.toList.drop 68 = dktX9_more_3 := dk_seg dksX9_more_2 23 rfl rfl
theorem dksX9_more_4 : cX9_more.data.toList.drop 92 = dktX9_more_4 := dk_seg dksX9_more_3 24 rfl rfl
theorem dX9_more_0 : decode cX9_more 0 = .ok (.aload_n 0, 1) := dk_42 (dk_at dksX9_more_0 0 rfl rfl)
theorem dX9_more_1 : decode cX9_more 1 = .ok (.ldc 138, 2) := dk_18 138 (dk_at dksX9_more_0 1 rfl rfl)
theorem dX9_more_3 : decode cX9_more 3 = .ok (.invokevirtual 97, 3) := dk_182 0 97 (dk_at dksX9_more_0 3 rfl rfl)
theorem dX9_more_6 : decode cX9_more 6 = .ok (.ifCond .eq 19, 3) := dk_153 0 19 (dk_at dksX9_more_0 6 rfl rfl)
theorem dX9_more_9 : decode cX9_more 9 = .ok (.aload_n 0, 1) := dk_42 (dk_at dksX9_more_0 9 rfl rfl)
theorem dX9_more_10 : decode cX9_more 10 = .ok (.getfield 18, 3) := dk_180 0 18 (dk_at dksX9_more_0 10 rfl rfl)
theorem dX9_more_13 : decode cX9_more 13 = .ok (.aload_n 0, 1) := dk_42 (dk_at dksX9_more_0 13 rfl rfl)
theorem dX9_more_14 : decode cX9_more 14 = .ok (.iconst 1, 1) := dk_4 (dk_at dksX9_more_0 14 rfl rfl)
theorem dX9_more_15 : decode cX9_more 15 = .ok (.iconst 3, 1) := dk_6 (dk_at dksX9_more_0 15 rfl rfl)
theorem dX9_more_16 : decode cX9_more 16 = .ok (.invokevirtual 139, 3) := dk_182 0 139 (dk_at dksX9_more_0 16 rfl rfl)
theorem dX9_more_19 : decode cX9_more 19 = .ok (.putfield 143, 3) := dk_181 0 143 (dk_at dksX9_more_0 19 rfl rfl)
theorem dX9_more_22 : decode cX9_more 22 = .ok (.goto 74, 3) := dk_167 0 74 (dk_at dksX9_more_1 0 rfl rfl)
theorem dX9_more_25 : decode cX9_more 25 = .ok (.aload_n 0, 1) := dk_42 (dk_at dksX9_more_1 3 rfl rfl)
theorem dX9_more_26 : decode cX9_more 26 = .ok (.ldc 145, 2) := dk_18 145 (dk_at dksX9_more_1 4 rfl rfl)
theorem dX9_more_28 : decode cX9_more 28 = .ok (.invokevirtual 97, 3) := dk_182 0 97 (dk_at dksX9_more_1 6 rfl rfl)
theorem dX9_more_31 : decode cX9_more 31 = .ok (.ifCond .eq 20, 3) := dk_153 0 20 (dk_at dksX9_more_1 9 rfl rfl)
theorem dX9_more_34 : decode cX9_more 34 = .ok (.aload_n 0, 1) := dk_42 (dk_at dksX9_more_1 12 rfl rfl)
theorem dX9_more_35 : decode cX9_more 35 = .ok (.getfield 18, 3) := dk_180 0 18 (dk_at dksX9_more_1 13 rfl rfl)
theorem dX9_more_38 : decode cX9_more 38 = .ok (.aload_n 0, 1) := dk_42 (dk_at dksX9_more_1 16 rfl rfl)
theorem dX9_more_39 : decode cX9_more 39 = .ok (.iconst 1, 1) := dk_4 (dk_at dksX9_more_1 17 rfl rfl)
theorem dX9_more_40 : decode cX9_more 40 = .ok (.bipush 8, 2) := dk_16 8 (dk_at dksX9_more_1 18 rfl rfl)
theorem dX9_more_42 : decode cX9_more 42 = .ok (.invokevirtual 139, 3) := dk_182 0 139 (dk_at dksX9_more_1 20 rfl rfl)
theorem dX9_more_45 : decode cX9_more 45 = .ok (.putfield 147, 3) := dk_181 0 147 (dk_at dksX9_more_2 0 rfl rfl)
theorem dX9_more_48 : decode cX9_more 48 = .ok (.goto 48, 3) := dk_167 0 48 (dk_at dksX9_more_2 3 rfl rfl)
theorem dX9_more_51 : decode cX9_more 51 = .ok (.aload_n 0, 1) := dk_42 (dk_at dksX9_more_2 6 rfl rfl)
theorem dX9_more_52 : decode cX9_more 52 = .ok (.ldc 149, 2) := dk_18 149 (dk_at dksX9_more_2 7 rfl rfl)
theorem dX9_more_54 : decode cX9_more 54 = .ok (.invokevirtual 97, 3) := dk_182 0 97 (dk_at dksX9_more_2 9 rfl rfl)
theorem dX9_more_57 : decode cX9_more 57 = .ok (.ifCond .eq 14, 3) := dk_153 0 14 (dk_at dksX9_more_2 12 rfl rfl)
theorem dX9_more_60 : decode cX9_more 60 = .ok (.aload_n 0, 1) := dk_42 (dk_at dksX9_more_2 15 rfl rfl)
theorem dX9_more_61 : decode cX9_more 61 = .ok (.getfield 18, 3) := dk_180 0 18 (dk_at dksX9_more_2 16 rfl rfl)
theorem dX9_more_64 : decode cX9_more 64 = .ok (.iconst 1, 1) := dk_4 (dk_at dksX9_more_2 19 rfl rfl)
theorem dX9_more_65 : decode cX9_more 65 = .ok (.putfield 151, 3) := dk_181 0 151 (dk_at dksX9_more_2 20 rfl rfl)
theorem dX9_more_68 : decode cX9_more 68 = .ok (.goto 28, 3) := dk_167 0 28 (dk_at dksX9_more_3 0 rfl rfl)
theorem dX9_more_71 : decode cX9_more 71 = .ok (.aload_n 0, 1) := dk_42 (dk_at dksX9_more_3 3 rfl rfl)
theorem dX9_more_72 : decode cX9_more 72 = .ok (.ldc 155, 2) := dk_18 155 (dk_at dksX9_more_3 4 rfl rfl)
theorem dX9_more_74 : decode cX9_more 74 = .ok (.invokevirtual 97, 3) := dk_182 0 97 (dk_at dksX9_more_3 6 rfl rfl)
theorem dX9_more_77 : decode cX9_more 77 = .ok (.ifCond .eq 14, 3) := dk_153 0 14 (dk_at dksX9_more_3 9 rfl rfl)
theorem dX9_more_80 : decode cX9_more 80 = .ok (.aload_n 0, 1) := dk_42 (dk_at dksX9_more_3 12 rfl rfl)
theorem dX9_more_81 : decode cX9_more 81 = .ok (.getfield 18, 3) := dk_180 0 18 (dk_at dksX9_more_3 13 rfl rfl)
theorem dX9_more_84 : decode cX9_more 84 = .ok (.iconst 1, 1) := dk_4 (dk_at dksX9_more_3 16 rfl rfl)
theorem dX9_more_85 : decode cX9_more 85 = .ok (.putfield 157, 3) := dk_181 0 157 (dk_at dksX9_more_3 17 rfl rfl)
theorem dX9_more_88 : decode cX9_more 88 = .ok (.goto 8, 3) := dk_167 0 8 (dk_at dksX9_more_3 20 rfl rfl)
theorem dX9_more_91 : decode cX9_more 91 = .ok (.aload_n 0, 1) := dk_42 (dk_at dksX9_more_3 23 rfl rfl)
theorem dX9_more_92 : decode cX9_more 92 = .ok (.iconst 2, 1) := dk_5 (dk_at dksX9_more_4 0 rfl rfl)
theorem dX9_more_93 : decode cX9_more 93 = .ok (.invokevirtual 100, 3) := dk_182 0 100 (dk_at dksX9_more_4 1 rfl rfl)
theorem dX9_more_96 : decode cX9_more 96 = .ok (.return_, 1) := dk_177 (dk_at dksX9_more_4 4 rfl rfl)
abbrev cX9_over : ByteArray := prog_11_method_12_code
def yX9_over : MethodName := ⟨RX9, "over", "()V"⟩
def dkwX9_over_1 : List UInt8 := [180, 0, 77, 154, 0, 7, 42, 182, 0, 94, 177]
abbrev dktX9_over_1 : List UInt8 := dkwX9_over_1 ++ []
def dkwX9_over_0 : List UInt8 := [42, 180, 0, 77, 154, 0, 17, 42, 180, 0, 64, 16, 59, 159, 0, 8, 42, 5, 182, 0, 100, 42]
abbrev dktX9_over_0 : List UInt8 := dkwX9_over_0 ++ dktX9_over_1
theorem dksX9_over_0 : cX9_over.data.toList.drop 0 = dktX9_over_0 := by decide +kernel
theorem dksX9_over_1 : cX9_over.data.toList.drop 22 = dktX9_over_1 := dk_seg dksX9_over_0 22 rfl rfl
theorem dX9_over_0 : decode cX9_over 0 = .ok (.aload_n 0, 1) := dk_42 (dk_at dksX9_over_0 0 rfl rfl)
theorem dX9_over_1 : decode cX9_over 1 = .ok (.getfield 77, 3) := dk_180 0 77 (dk_at dksX9_over_0 1 rfl rfl)
theorem dX9_over_4 : decode cX9_over 4 = .ok (.ifCond .ne 17, 3) := dk_154 0 17 (dk_at dksX9_over_0 4 rfl rfl)
theorem dX9_over_7 : decode cX9_over 7 = .ok (.aload_n 0, 1) := dk_42 (dk_at dksX9_over_0 7 rfl rfl)
theorem dX9_over_8 : decode cX9_over 8 = .ok (.getfield 64, 3) := dk_180 0 64 (dk_at dksX9_over_0 8 rfl rfl)
theorem dX9_over_11 : decode cX9_over 11 = .ok (.bipush 59, 2) := dk_16 59 (dk_at dksX9_over_0 11 rfl rfl)
theorem dX9_over_13 : decode cX9_over 13 = .ok (.if_icmp .eq 8, 3) := dk_159 0 8 (dk_at dksX9_over_0 13 rfl rfl)
theorem dX9_over_16 : decode cX9_over 16 = .ok (.aload_n 0, 1) := dk_42 (dk_at dksX9_over_0 16 rfl rfl)
theorem dX9_over_17 : decode cX9_over 17 = .ok (.iconst 2, 1) := dk_5 (dk_at dksX9_over_0 17 rfl rfl)
theorem dX9_over_18 : decode cX9_over 18 = .ok (.invokevirtual 100, 3) := dk_182 0 100 (dk_at dksX9_over_0 18 rfl rfl)
theorem dX9_over_21 : decode cX9_over 21 = .ok (.aload_n 0, 1) := dk_42 (dk_at dksX9_over_0 21 rfl rfl)
theorem dX9_over_22 : decode cX9_over 22 = .ok (.getfield 77, 3) := dk_180 0 77 (dk_at dksX9_over_1 0 rfl rfl)
theorem dX9_over_25 : decode cX9_over 25 = .ok (.ifCond .ne 7, 3) := dk_154 0 7 (dk_at dksX9_over_1 3 rfl rfl)
theorem dX9_over_28 : decode cX9_over 28 = .ok (.aload_n 0, 1) := dk_42 (dk_at dksX9_over_1 6 rfl rfl)
theorem dX9_over_29 : decode cX9_over 29 = .ok (.invokevirtual 94, 3) := dk_182 0 94 (dk_at dksX9_over_1 7 rfl rfl)
theorem dX9_over_32 : decode cX9_over 32 = .ok (.return_, 1) := dk_177 (dk_at dksX9_over_1 10 rfl rfl)
abbrev cX9_bars : ByteArray := prog_11_method_21_code
def yX9_bars : MethodName := ⟨RX9, "bars", "()V"⟩
def dkwX9_bars_3 : List UInt8 := [42, 182, 0, 110, 42, 180, 0, 27, 43, 182, 0, 172, 87, 167, 255, 176, 177]
abbrev dktX9_bars_3 : List UInt8 := dkwX9_bars_3 ++ []
def dkwX9_bars_2 : List UInt8 := [16, 8, 160, 0, 7, 4, 167, 0, 4, 3, 182, 0, 165, 42, 18, 228, 182, 0, 180, 42, 182, 0, 230, 76]
abbrev dktX9_bars_2 : List UInt8 := dkwX9_bars_2 ++ dktX9_bars_3
def dkwX9_bars_1 : List UInt8 := [154, 0, 8, 42, 5, 182, 0, 100, 42, 180, 0, 77, 154, 0, 24, 42, 42, 180, 0, 27, 182, 0, 163]
abbrev dktX9_bars_1 : List UInt8 := dkwX9_bars_1 ++ dktX9_bars_2
def dkwX9_bars_0 : List UInt8 := [42, 182, 0, 94, 42, 180, 0, 77, 154, 0, 79, 42, 180, 0, 64, 153, 0, 72, 42, 18, 226, 182, 0, 90]
abbrev dktX9_bars_0 : List UInt8 := dkwX9_bars_0 ++ dktX9_bars_1
theorem dksX9_bars_0 : cX9_bars.data.toList.drop 0 = dktX9_bars_0 := by decide +kernel
theorem dksX9_bars_1 : cX9_bars.data.toList.drop 24 = dktX9_bars_1 := dk_seg dksX9_bars_0 24 rfl rfl
theorem dksX9_bars_2 : cX9_bars.data.toList.drop 47 = dktX9_bars_2 := dk_seg dksX9_bars_1 23 rfl rfl
theorem dksX9_bars_3 : cX9_bars.data.toList.drop 71 = dktX9_bars_3 := dk_seg dksX9_bars_2 24 rfl rfl
theorem dX9_bars_0 : decode cX9_bars 0 = .ok (.aload_n 0, 1) := dk_42 (dk_at dksX9_bars_0 0 rfl rfl)
theorem dX9_bars_1 : decode cX9_bars 1 = .ok (.invokevirtual 94, 3) := dk_182 0 94 (dk_at dksX9_bars_0 1 rfl rfl)
theorem dX9_bars_4 : decode cX9_bars 4 = .ok (.aload_n 0, 1) := dk_42 (dk_at dksX9_bars_0 4 rfl rfl)
theorem dX9_bars_5 : decode cX9_bars 5 = .ok (.getfield 77, 3) := dk_180 0 77 (dk_at dksX9_bars_0 5 rfl rfl)
theorem dX9_bars_8 : decode cX9_bars 8 = .ok (.ifCond .ne 79, 3) := dk_154 0 79 (dk_at dksX9_bars_0 8 rfl rfl)
theorem dX9_bars_11 : decode cX9_bars 11 = .ok (.aload_n 0, 1) := dk_42 (dk_at dksX9_bars_0 11 rfl rfl)
theorem dX9_bars_12 : decode cX9_bars 12 = .ok (.getfield 64, 3) := dk_180 0 64 (dk_at dksX9_bars_0 12 rfl rfl)
theorem dX9_bars_15 : decode cX9_bars 15 = .ok (.ifCond .eq 72, 3) := dk_153 0 72 (dk_at dksX9_bars_0 15 rfl rfl)
theorem dX9_bars_18 : decode cX9_bars 18 = .ok (.aload_n 0, 1) := dk_42 (dk_at dksX9_bars_0 18 rfl rfl)
theorem dX9_bars_19 : decode cX9_bars 19 = .ok (.ldc 226, 2) := dk_18 226 (dk_at dksX9_bars_0 19 rfl rfl)
theorem dX9_bars_21 : decode cX9_bars 21 = .ok (.invokevirtual 90, 3) := dk_182 0 90 (dk_at dksX9_bars_0 21 rfl rfl)
theorem dX9_bars_24 : decode cX9_bars 24 = .ok (.ifCond .ne 8, 3) := dk_154 0 8 (dk_at dksX9_bars_1 0 rfl rfl)
theorem dX9_bars_27 : decode cX9_bars 27 = .ok (.aload_n 0, 1) := dk_42 (dk_at dksX9_bars_1 3 rfl rfl)
theorem dX9_bars_28 : decode cX9_bars 28 = .ok (.iconst 2, 1) := dk_5 (dk_at dksX9_bars_1 4 rfl rfl)
theorem dX9_bars_29 : decode cX9_bars 29 = .ok (.invokevirtual 100, 3) := dk_182 0 100 (dk_at dksX9_bars_1 5 rfl rfl)
theorem dX9_bars_32 : decode cX9_bars 32 = .ok (.aload_n 0, 1) := dk_42 (dk_at dksX9_bars_1 8 rfl rfl)
theorem dX9_bars_33 : decode cX9_bars 33 = .ok (.getfield 77, 3) := dk_180 0 77 (dk_at dksX9_bars_1 9 rfl rfl)
theorem dX9_bars_36 : decode cX9_bars 36 = .ok (.ifCond .ne 24, 3) := dk_154 0 24 (dk_at dksX9_bars_1 12 rfl rfl)
theorem dX9_bars_39 : decode cX9_bars 39 = .ok (.aload_n 0, 1) := dk_42 (dk_at dksX9_bars_1 15 rfl rfl)
theorem dX9_bars_40 : decode cX9_bars 40 = .ok (.aload_n 0, 1) := dk_42 (dk_at dksX9_bars_1 16 rfl rfl)
theorem dX9_bars_41 : decode cX9_bars 41 = .ok (.getfield 27, 3) := dk_180 0 27 (dk_at dksX9_bars_1 17 rfl rfl)
theorem dX9_bars_44 : decode cX9_bars 44 = .ok (.invokevirtual 163, 3) := dk_182 0 163 (dk_at dksX9_bars_1 20 rfl rfl)
theorem dX9_bars_47 : decode cX9_bars 47 = .ok (.bipush 8, 2) := dk_16 8 (dk_at dksX9_bars_2 0 rfl rfl)
theorem dX9_bars_49 : decode cX9_bars 49 = .ok (.if_icmp .ne 7, 3) := dk_160 0 7 (dk_at dksX9_bars_2 2 rfl rfl)
theorem dX9_bars_52 : decode cX9_bars 52 = .ok (.iconst 1, 1) := dk_4 (dk_at dksX9_bars_2 5 rfl rfl)
theorem dX9_bars_53 : decode cX9_bars 53 = .ok (.goto 4, 3) := dk_167 0 4 (dk_at dksX9_bars_2 6 rfl rfl)
theorem dX9_bars_56 : decode cX9_bars 56 = .ok (.iconst 0, 1) := dk_3 (dk_at dksX9_bars_2 9 rfl rfl)
theorem dX9_bars_57 : decode cX9_bars 57 = .ok (.invokevirtual 165, 3) := dk_182 0 165 (dk_at dksX9_bars_2 10 rfl rfl)
theorem dX9_bars_60 : decode cX9_bars 60 = .ok (.aload_n 0, 1) := dk_42 (dk_at dksX9_bars_2 13 rfl rfl)
theorem dX9_bars_61 : decode cX9_bars 61 = .ok (.ldc 228, 2) := dk_18 228 (dk_at dksX9_bars_2 14 rfl rfl)
theorem dX9_bars_63 : decode cX9_bars 63 = .ok (.invokevirtual 180, 3) := dk_182 0 180 (dk_at dksX9_bars_2 16 rfl rfl)
theorem dX9_bars_66 : decode cX9_bars 66 = .ok (.aload_n 0, 1) := dk_42 (dk_at dksX9_bars_2 19 rfl rfl)
theorem dX9_bars_67 : decode cX9_bars 67 = .ok (.invokevirtual 230, 3) := dk_182 0 230 (dk_at dksX9_bars_2 20 rfl rfl)
theorem dX9_bars_70 : decode cX9_bars 70 = .ok (.astore_n 1, 1) := dk_76 (dk_at dksX9_bars_2 23 rfl rfl)
theorem dX9_bars_71 : decode cX9_bars 71 = .ok (.aload_n 0, 1) := dk_42 (dk_at dksX9_bars_3 0 rfl rfl)
theorem dX9_bars_72 : decode cX9_bars 72 = .ok (.invokevirtual 110, 3) := dk_182 0 110 (dk_at dksX9_bars_3 1 rfl rfl)
theorem dX9_bars_75 : decode cX9_bars 75 = .ok (.aload_n 0, 1) := dk_42 (dk_at dksX9_bars_3 4 rfl rfl)
theorem dX9_bars_76 : decode cX9_bars 76 = .ok (.getfield 27, 3) := dk_180 0 27 (dk_at dksX9_bars_3 5 rfl rfl)
theorem dX9_bars_79 : decode cX9_bars 79 = .ok (.aload_n 1, 1) := dk_43 (dk_at dksX9_bars_3 8 rfl rfl)
theorem dX9_bars_80 : decode cX9_bars 80 = .ok (.invokevirtual 172, 3) := dk_182 0 172 (dk_at dksX9_bars_3 9 rfl rfl)
theorem dX9_bars_83 : decode cX9_bars 83 = .ok (.pop, 1) := dk_87 (dk_at dksX9_bars_3 12 rfl rfl)
theorem dX9_bars_84 : decode cX9_bars 84 = .ok (.goto (-80), 3) := dk_167 255 176 (dk_at dksX9_bars_3 13 rfl rfl)
theorem dX9_bars_87 : decode cX9_bars 87 = .ok (.return_, 1) := dk_177 (dk_at dksX9_bars_3 16 rfl rfl)
abbrev cX9_some : ByteArray := prog_11_method_22_code
def yX9_some : MethodName := ⟨RX9, "some", "()LStoneYear$Fact;"⟩
def dkwX9_some_1 : List UInt8 := [183, 0, 241, 76, 167, 255, 233, 43, 176]
abbrev dktX9_some_1 : List UInt8 := dkwX9_some_1 ++ []
def dkwX9_some_0 : List UInt8 := [42, 182, 0, 234, 76, 42, 18, 237, 182, 0, 97, 153, 0, 20, 187, 0, 239, 89, 3, 43, 42, 182, 0, 234]
abbrev dktX9_some_0 : List UInt8 := dkwX9_some_0 ++ dktX9_some_1
theorem dksX9_some_0 : cX9_some.data.toList.drop 0 = dktX9_some_0 := by decide +kernel
theorem dksX9_some_1 : cX9_some.data.toList.drop 24 = dktX9_some_1 := dk_seg dksX9_some_0 24 rfl rfl
theorem dX9_some_0 : decode cX9_some 0 = .ok (.aload_n 0, 1) := dk_42 (dk_at dksX9_some_0 0 rfl rfl)
theorem dX9_some_1 : decode cX9_some 1 = .ok (.invokevirtual 234, 3) := dk_182 0 234 (dk_at dksX9_some_0 1 rfl rfl)
theorem dX9_some_4 : decode cX9_some 4 = .ok (.astore_n 1, 1) := dk_76 (dk_at dksX9_some_0 4 rfl rfl)
theorem dX9_some_5 : decode cX9_some 5 = .ok (.aload_n 0, 1) := dk_42 (dk_at dksX9_some_0 5 rfl rfl)
theorem dX9_some_6 : decode cX9_some 6 = .ok (.ldc 237, 2) := dk_18 237 (dk_at dksX9_some_0 6 rfl rfl)
theorem dX9_some_8 : decode cX9_some 8 = .ok (.invokevirtual 97, 3) := dk_182 0 97 (dk_at dksX9_some_0 8 rfl rfl)
theorem dX9_some_11 : decode cX9_some 11 = .ok (.ifCond .eq 20, 3) := dk_153 0 20 (dk_at dksX9_some_0 11 rfl rfl)
theorem dX9_some_14 : decode cX9_some 14 = .ok (.new 239, 3) := dk_187 0 239 (dk_at dksX9_some_0 14 rfl rfl)
theorem dX9_some_17 : decode cX9_some 17 = .ok (.dup, 1) := dk_89 (dk_at dksX9_some_0 17 rfl rfl)
theorem dX9_some_18 : decode cX9_some 18 = .ok (.iconst 0, 1) := dk_3 (dk_at dksX9_some_0 18 rfl rfl)
theorem dX9_some_19 : decode cX9_some 19 = .ok (.aload_n 1, 1) := dk_43 (dk_at dksX9_some_0 19 rfl rfl)
theorem dX9_some_20 : decode cX9_some 20 = .ok (.aload_n 0, 1) := dk_42 (dk_at dksX9_some_0 20 rfl rfl)
theorem dX9_some_21 : decode cX9_some 21 = .ok (.invokevirtual 234, 3) := dk_182 0 234 (dk_at dksX9_some_0 21 rfl rfl)
theorem dX9_some_24 : decode cX9_some 24 = .ok (.invokespecial 241, 3) := dk_183 0 241 (dk_at dksX9_some_1 0 rfl rfl)
theorem dX9_some_27 : decode cX9_some 27 = .ok (.astore_n 1, 1) := dk_76 (dk_at dksX9_some_1 3 rfl rfl)
theorem dX9_some_28 : decode cX9_some 28 = .ok (.goto (-23), 3) := dk_167 255 233 (dk_at dksX9_some_1 4 rfl rfl)
theorem dX9_some_31 : decode cX9_some 31 = .ok (.aload_n 1, 1) := dk_43 (dk_at dksX9_some_1 7 rfl rfl)
theorem dX9_some_32 : decode cX9_some 32 = .ok (.areturn, 1) := dk_176 (dk_at dksX9_some_1 8 rfl rfl)
abbrev cX9_all : ByteArray := prog_11_method_23_code
def yX9_all : MethodName := ⟨RX9, "all", "()LStoneYear$Fact;"⟩
def dkwX9_all_1 : List UInt8 := [183, 0, 241, 76, 167, 255, 233, 43, 176]
abbrev dktX9_all_1 : List UInt8 := dkwX9_all_1 ++ []
def dkwX9_all_0 : List UInt8 := [42, 182, 0, 244, 76, 42, 18, 247, 182, 0, 97, 153, 0, 20, 187, 0, 239, 89, 4, 43, 42, 182, 0, 244]
abbrev dktX9_all_0 : List UInt8 := dkwX9_all_0 ++ dktX9_all_1
theorem dksX9_all_0 : cX9_all.data.toList.drop 0 = dktX9_all_0 := by decide +kernel
theorem dksX9_all_1 : cX9_all.data.toList.drop 24 = dktX9_all_1 := dk_seg dksX9_all_0 24 rfl rfl
theorem dX9_all_0 : decode cX9_all 0 = .ok (.aload_n 0, 1) := dk_42 (dk_at dksX9_all_0 0 rfl rfl)
theorem dX9_all_1 : decode cX9_all 1 = .ok (.invokevirtual 244, 3) := dk_182 0 244 (dk_at dksX9_all_0 1 rfl rfl)
theorem dX9_all_4 : decode cX9_all 4 = .ok (.astore_n 1, 1) := dk_76 (dk_at dksX9_all_0 4 rfl rfl)
theorem dX9_all_5 : decode cX9_all 5 = .ok (.aload_n 0, 1) := dk_42 (dk_at dksX9_all_0 5 rfl rfl)
theorem dX9_all_6 : decode cX9_all 6 = .ok (.ldc 247, 2) := dk_18 247 (dk_at dksX9_all_0 6 rfl rfl)
theorem dX9_all_8 : decode cX9_all 8 = .ok (.invokevirtual 97, 3) := dk_182 0 97 (dk_at dksX9_all_0 8 rfl rfl)
theorem dX9_all_11 : decode cX9_all 11 = .ok (.ifCond .eq 20, 3) := dk_153 0 20 (dk_at dksX9_all_0 11 rfl rfl)
theorem dX9_all_14 : decode cX9_all 14 = .ok (.new 239, 3) := dk_187 0 239 (dk_at dksX9_all_0 14 rfl rfl)
theorem dX9_all_17 : decode cX9_all 17 = .ok (.dup, 1) := dk_89 (dk_at dksX9_all_0 17 rfl rfl)
theorem dX9_all_18 : decode cX9_all 18 = .ok (.iconst 1, 1) := dk_4 (dk_at dksX9_all_0 18 rfl rfl)
theorem dX9_all_19 : decode cX9_all 19 = .ok (.aload_n 1, 1) := dk_43 (dk_at dksX9_all_0 19 rfl rfl)
theorem dX9_all_20 : decode cX9_all 20 = .ok (.aload_n 0, 1) := dk_42 (dk_at dksX9_all_0 20 rfl rfl)
theorem dX9_all_21 : decode cX9_all 21 = .ok (.invokevirtual 244, 3) := dk_182 0 244 (dk_at dksX9_all_0 21 rfl rfl)
theorem dX9_all_24 : decode cX9_all 24 = .ok (.invokespecial 241, 3) := dk_183 0 241 (dk_at dksX9_all_1 0 rfl rfl)
theorem dX9_all_27 : decode cX9_all 27 = .ok (.astore_n 1, 1) := dk_76 (dk_at dksX9_all_1 3 rfl rfl)
theorem dX9_all_28 : decode cX9_all 28 = .ok (.goto (-23), 3) := dk_167 255 233 (dk_at dksX9_all_1 4 rfl rfl)
theorem dX9_all_31 : decode cX9_all 31 = .ok (.aload_n 1, 1) := dk_43 (dk_at dksX9_all_1 7 rfl rfl)
theorem dX9_all_32 : decode cX9_all 32 = .ok (.areturn, 1) := dk_176 (dk_at dksX9_all_1 8 rfl rfl)
abbrev cX9_fact : ByteArray := prog_11_method_25_code
def yX9_fact : MethodName := ⟨RX9, "fact", "()LStoneYear$Fact;"⟩
def dkwX9_fact_11 : List UInt8 := [162, 0, 7, 7, 167, 0, 13, 27, 7, 160, 0, 7, 5, 167, 0, 4, 6, 182, 0, 139, 183, 1, 17, 176]
abbrev dktX9_fact_11 : List UInt8 := dkwX9_fact_11 ++ []
def dkwX9_fact_10 : List UInt8 := [3, 27, 154, 0, 8, 16, 7, 167, 0, 32, 27, 4, 160, 0, 8, 16, 9, 167, 0, 22, 27, 7]
abbrev dktX9_fact_10 : List UInt8 := dkwX9_fact_10 ++ dktX9_fact_11
def dkwX9_fact_9 : List UInt8 := [2, 160, 0, 8, 42, 5, 182, 0, 100, 187, 1, 15, 89, 27, 42, 27, 4, 160, 0, 7, 4, 167, 0, 4]
abbrev dktX9_fact_9 : List UInt8 := dkwX9_fact_9 ++ dktX9_fact_10
def dkwX9_fact_8 : List UInt8 := [153, 0, 7, 7, 167, 0, 18, 42, 19, 1, 13, 182, 0, 97, 153, 0, 7, 8, 167, 0, 4, 2, 60, 27]
abbrev dktX9_fact_8 : List UInt8 := dkwX9_fact_8 ++ dktX9_fact_9
def dkwX9_fact_7 : List UInt8 := [167, 0, 46, 42, 19, 1, 10, 182, 0, 97, 153, 0, 7, 6, 167, 0, 32, 42, 19, 1, 12, 182, 0, 97]
abbrev dktX9_fact_7 : List UInt8 := dkwX9_fact_7 ++ dktX9_fact_8
def dkwX9_fact_6 : List UInt8 := [42, 18, 179, 182, 0, 97, 153, 0, 7, 4, 167, 0, 60, 42, 19, 1, 8, 182, 0, 97, 153, 0, 7, 5]
abbrev dktX9_fact_6 : List UInt8 := dkwX9_fact_6 ++ dktX9_fact_7
def dkwX9_fact_5 : List UInt8 := [180, 0, 249, 4, 100, 181, 0, 249, 43, 176, 42, 19, 1, 6, 182, 0, 97, 153, 0, 7, 3, 167, 0, 73]
abbrev dktX9_fact_5 : List UInt8 := dkwX9_fact_5 ++ dktX9_fact_6
def dkwX9_fact_4 : List UInt8 := [16, 41, 159, 0, 8, 42, 5, 182, 0, 100, 42, 180, 0, 77, 154, 0, 7, 42, 182, 0, 94, 42, 89]
abbrev dktX9_fact_4 : List UInt8 := dkwX9_fact_4 ++ dktX9_fact_5
def dkwX9_fact_3 : List UInt8 := [154, 0, 10, 42, 182, 0, 230, 167, 0, 4, 1, 76, 42, 180, 0, 77, 154, 0, 17, 42, 180, 0, 64]
abbrev dktX9_fact_3 : List UInt8 := dkwX9_fact_3 ++ dktX9_fact_4
def dkwX9_fact_2 : List UInt8 := [42, 180, 0, 77, 154, 0, 76, 42, 180, 0, 64, 16, 40, 160, 0, 67, 42, 182, 0, 254, 42, 180, 0, 77]
abbrev dktX9_fact_2 : List UInt8 := dkwX9_fact_2 ++ dktX9_fact_3
def dkwX9_fact_1 : List UInt8 := [42, 182, 0, 244, 183, 1, 3, 167, 0, 4, 1, 76, 42, 89, 180, 0, 249, 4, 100, 181, 0, 249, 43, 176]
abbrev dktX9_fact_1 : List UInt8 := dkwX9_fact_1 ++ dktX9_fact_2
def dkwX9_fact_0 : List UInt8 := [42, 18, 252, 182, 0, 90, 153, 0, 42, 42, 182, 0, 254, 42, 180, 0, 77, 154, 0, 17, 187, 1, 1, 89]
abbrev dktX9_fact_0 : List UInt8 := dkwX9_fact_0 ++ dktX9_fact_1
theorem dksX9_fact_0 : cX9_fact.data.toList.drop 0 = dktX9_fact_0 := by decide +kernel
theorem dksX9_fact_1 : cX9_fact.data.toList.drop 24 = dktX9_fact_1 := dk_seg dksX9_fact_0 24 rfl rfl
theorem dksX9_fact_2 : cX9_fact.data.toList.drop 48 = dktX9_fact_2 := dk_seg dksX9_fact_1 24 rfl rfl
theorem dksX9_fact_3 : cX9_fact.data.toList.drop 72 = dktX9_fact_3 := dk_seg dksX9_fact_2 24 rfl rfl
theorem dksX9_fact_4 : cX9_fact.data.toList.drop 95 = dktX9_fact_4 := dk_seg dksX9_fact_3 23 rfl rfl
theorem dksX9_fact_5 : cX9_fact.data.toList.drop 118 = dktX9_fact_5 := dk_seg dksX9_fact_4 23 rfl rfl
theorem dksX9_fact_6 : cX9_fact.data.toList.drop 142 = dktX9_fact_6 := dk_seg dksX9_fact_5 24 rfl rfl
theorem dksX9_fact_7 : cX9_fact.data.toList.drop 166 = dktX9_fact_7 := dk_seg dksX9_fact_6 24 rfl rfl
theorem dksX9_fact_8 : cX9_fact.data.toList.drop 190 = dktX9_fact_8 := dk_seg dksX9_fact_7 24 rfl rfl
theorem dksX9_fact_9 : cX9_fact.data.toList.drop 214 = dktX9_fact_9 := dk_seg dksX9_fact_8 24 rfl rfl
theorem dksX9_fact_10 : cX9_fact.data.toList.drop 238 = dktX9_fact_10 := dk_seg dksX9_fact_9 24 rfl rfl
theorem dksX9_fact_11 : cX9_fact.data.toList.drop 260 = dktX9_fact_11 := dk_seg dksX9_fact_10 22 rfl rfl
theorem dX9_fact_0 : decode cX9_fact 0 = .ok (.aload_n 0, 1) := dk_42 (dk_at dksX9_fact_0 0 rfl rfl)
theorem dX9_fact_1 : decode cX9_fact 1 = .ok (.ldc 252, 2) := dk_18 252 (dk_at dksX9_fact_0 1 rfl rfl)
theorem dX9_fact_3 : decode cX9_fact 3 = .ok (.invokevirtual 90, 3) := dk_182 0 90 (dk_at dksX9_fact_0 3 rfl rfl)
theorem dX9_fact_6 : decode cX9_fact 6 = .ok (.ifCond .eq 42, 3) := dk_153 0 42 (dk_at dksX9_fact_0 6 rfl rfl)
theorem dX9_fact_9 : decode cX9_fact 9 = .ok (.aload_n 0, 1) := dk_42 (dk_at dksX9_fact_0 9 rfl rfl)
theorem dX9_fact_10 : decode cX9_fact 10 = .ok (.invokevirtual 254, 3) := dk_182 0 254 (dk_at dksX9_fact_0 10 rfl rfl)
theorem dX9_fact_13 : decode cX9_fact 13 = .ok (.aload_n 0, 1) := dk_42 (dk_at dksX9_fact_0 13 rfl rfl)
theorem dX9_fact_14 : decode cX9_fact 14 = .ok (.getfield 77, 3) := dk_180 0 77 (dk_at dksX9_fact_0 14 rfl rfl)
theorem dX9_fact_17 : decode cX9_fact 17 = .ok (.ifCond .ne 17, 3) := dk_154 0 17 (dk_at dksX9_fact_0 17 rfl rfl)
theorem dX9_fact_20 : decode cX9_fact 20 = .ok (.new 257, 3) := dk_187 1 1 (dk_at dksX9_fact_0 20 rfl rfl)
theorem dX9_fact_23 : decode cX9_fact 23 = .ok (.dup, 1) := dk_89 (dk_at dksX9_fact_0 23 rfl rfl)
theorem dX9_fact_24 : decode cX9_fact 24 = .ok (.aload_n 0, 1) := dk_42 (dk_at dksX9_fact_1 0 rfl rfl)
theorem dX9_fact_25 : decode cX9_fact 25 = .ok (.invokevirtual 244, 3) := dk_182 0 244 (dk_at dksX9_fact_1 1 rfl rfl)
theorem dX9_fact_28 : decode cX9_fact 28 = .ok (.invokespecial 259, 3) := dk_183 1 3 (dk_at dksX9_fact_1 4 rfl rfl)
theorem dX9_fact_31 : decode cX9_fact 31 = .ok (.goto 4, 3) := dk_167 0 4 (dk_at dksX9_fact_1 7 rfl rfl)
theorem dX9_fact_34 : decode cX9_fact 34 = .ok (.aconst_null, 1) := dk_1 (dk_at dksX9_fact_1 10 rfl rfl)
theorem dX9_fact_35 : decode cX9_fact 35 = .ok (.astore_n 1, 1) := dk_76 (dk_at dksX9_fact_1 11 rfl rfl)
theorem dX9_fact_36 : decode cX9_fact 36 = .ok (.aload_n 0, 1) := dk_42 (dk_at dksX9_fact_1 12 rfl rfl)
theorem dX9_fact_37 : decode cX9_fact 37 = .ok (.dup, 1) := dk_89 (dk_at dksX9_fact_1 13 rfl rfl)
theorem dX9_fact_38 : decode cX9_fact 38 = .ok (.getfield 249, 3) := dk_180 0 249 (dk_at dksX9_fact_1 14 rfl rfl)
theorem dX9_fact_41 : decode cX9_fact 41 = .ok (.iconst 1, 1) := dk_4 (dk_at dksX9_fact_1 17 rfl rfl)
theorem dX9_fact_42 : decode cX9_fact 42 = .ok (.isub, 1) := dk_100 (dk_at dksX9_fact_1 18 rfl rfl)
theorem dX9_fact_43 : decode cX9_fact 43 = .ok (.putfield 249, 3) := dk_181 0 249 (dk_at dksX9_fact_1 19 rfl rfl)
theorem dX9_fact_46 : decode cX9_fact 46 = .ok (.aload_n 1, 1) := dk_43 (dk_at dksX9_fact_1 22 rfl rfl)
theorem dX9_fact_47 : decode cX9_fact 47 = .ok (.areturn, 1) := dk_176 (dk_at dksX9_fact_1 23 rfl rfl)
theorem dX9_fact_48 : decode cX9_fact 48 = .ok (.aload_n 0, 1) := dk_42 (dk_at dksX9_fact_2 0 rfl rfl)
theorem dX9_fact_49 : decode cX9_fact 49 = .ok (.getfield 77, 3) := dk_180 0 77 (dk_at dksX9_fact_2 1 rfl rfl)
theorem dX9_fact_52 : decode cX9_fact 52 = .ok (.ifCond .ne 76, 3) := dk_154 0 76 (dk_at dksX9_fact_2 4 rfl rfl)
theorem dX9_fact_55 : decode cX9_fact 55 = .ok (.aload_n 0, 1) := dk_42 (dk_at dksX9_fact_2 7 rfl rfl)
theorem dX9_fact_56 : decode cX9_fact 56 = .ok (.getfield 64, 3) := dk_180 0 64 (dk_at dksX9_fact_2 8 rfl rfl)
theorem dX9_fact_59 : decode cX9_fact 59 = .ok (.bipush 40, 2) := dk_16 40 (dk_at dksX9_fact_2 11 rfl rfl)
theorem dX9_fact_61 : decode cX9_fact 61 = .ok (.if_icmp .ne 67, 3) := dk_160 0 67 (dk_at dksX9_fact_2 13 rfl rfl)
theorem dX9_fact_64 : decode cX9_fact 64 = .ok (.aload_n 0, 1) := dk_42 (dk_at dksX9_fact_2 16 rfl rfl)
theorem dX9_fact_65 : decode cX9_fact 65 = .ok (.invokevirtual 254, 3) := dk_182 0 254 (dk_at dksX9_fact_2 17 rfl rfl)
theorem dX9_fact_68 : decode cX9_fact 68 = .ok (.aload_n 0, 1) := dk_42 (dk_at dksX9_fact_2 20 rfl rfl)
theorem dX9_fact_69 : decode cX9_fact 69 = .ok (.getfield 77, 3) := dk_180 0 77 (dk_at dksX9_fact_2 21 rfl rfl)
theorem dX9_fact_72 : decode cX9_fact 72 = .ok (.ifCond .ne 10, 3) := dk_154 0 10 (dk_at dksX9_fact_3 0 rfl rfl)
theorem dX9_fact_75 : decode cX9_fact 75 = .ok (.aload_n 0, 1) := dk_42 (dk_at dksX9_fact_3 3 rfl rfl)
theorem dX9_fact_76 : decode cX9_fact 76 = .ok (.invokevirtual 230, 3) := dk_182 0 230 (dk_at dksX9_fact_3 4 rfl rfl)
theorem dX9_fact_79 : decode cX9_fact 79 = .ok (.goto 4, 3) := dk_167 0 4 (dk_at dksX9_fact_3 7 rfl rfl)
theorem dX9_fact_82 : decode cX9_fact 82 = .ok (.aconst_null, 1) := dk_1 (dk_at dksX9_fact_3 10 rfl rfl)
theorem dX9_fact_83 : decode cX9_fact 83 = .ok (.astore_n 1, 1) := dk_76 (dk_at dksX9_fact_3 11 rfl rfl)
theorem dX9_fact_84 : decode cX9_fact 84 = .ok (.aload_n 0, 1) := dk_42 (dk_at dksX9_fact_3 12 rfl rfl)
theorem dX9_fact_85 : decode cX9_fact 85 = .ok (.getfield 77, 3) := dk_180 0 77 (dk_at dksX9_fact_3 13 rfl rfl)
theorem dX9_fact_88 : decode cX9_fact 88 = .ok (.ifCond .ne 17, 3) := dk_154 0 17 (dk_at dksX9_fact_3 16 rfl rfl)
theorem dX9_fact_91 : decode cX9_fact 91 = .ok (.aload_n 0, 1) := dk_42 (dk_at dksX9_fact_3 19 rfl rfl)
theorem dX9_fact_92 : decode cX9_fact 92 = .ok (.getfield 64, 3) := dk_180 0 64 (dk_at dksX9_fact_3 20 rfl rfl)
theorem dX9_fact_95 : decode cX9_fact 95 = .ok (.bipush 41, 2) := dk_16 41 (dk_at dksX9_fact_4 0 rfl rfl)
theorem dX9_fact_97 : decode cX9_fact 97 = .ok (.if_icmp .eq 8, 3) := dk_159 0 8 (dk_at dksX9_fact_4 2 rfl rfl)
theorem dX9_fact_100 : decode cX9_fact 100 = .ok (.aload_n 0, 1) := dk_42 (dk_at dksX9_fact_4 5 rfl rfl)
theorem dX9_fact_101 : decode cX9_fact 101 = .ok (.iconst 2, 1) := dk_5 (dk_at dksX9_fact_4 6 rfl rfl)
theorem dX9_fact_102 : decode cX9_fact 102 = .ok (.invokevirtual 100, 3) := dk_182 0 100 (dk_at dksX9_fact_4 7 rfl rfl)
theorem dX9_fact_105 : decode cX9_fact 105 = .ok (.aload_n 0, 1) := dk_42 (dk_at dksX9_fact_4 10 rfl rfl)
theorem dX9_fact_106 : decode cX9_fact 106 = .ok (.getfield 77, 3) := dk_180 0 77 (dk_at dksX9_fact_4 11 rfl rfl)
theorem dX9_fact_109 : decode cX9_fact 109 = .ok (.ifCond .ne 7, 3) := dk_154 0 7 (dk_at dksX9_fact_4 14 rfl rfl)
theorem dX9_fact_112 : decode cX9_fact 112 = .ok (.aload_n 0, 1) := dk_42 (dk_at dksX9_fact_4 17 rfl rfl)
theorem dX9_fact_113 : decode cX9_fact 113 = .ok (.invokevirtual 94, 3) := dk_182 0 94 (dk_at dksX9_fact_4 18 rfl rfl)
theorem dX9_fact_116 : decode cX9_fact 116 = .ok (.aload_n 0, 1) := dk_42 (dk_at dksX9_fact_4 21 rfl rfl)
theorem dX9_fact_117 : decode cX9_fact 117 = .ok (.dup, 1) := dk_89 (dk_at dksX9_fact_4 22 rfl rfl)
theorem dX9_fact_118 : decode cX9_fact 118 = .ok (.getfield 249, 3) := dk_180 0 249 (dk_at dksX9_fact_5 0 rfl rfl)
theorem dX9_fact_121 : decode cX9_fact 121 = .ok (.iconst 1, 1) := dk_4 (dk_at dksX9_fact_5 3 rfl rfl)
theorem dX9_fact_122 : decode cX9_fact 122 = .ok (.isub, 1) := dk_100 (dk_at dksX9_fact_5 4 rfl rfl)
theorem dX9_fact_123 : decode cX9_fact 123 = .ok (.putfield 249, 3) := dk_181 0 249 (dk_at dksX9_fact_5 5 rfl rfl)
theorem dX9_fact_126 : decode cX9_fact 126 = .ok (.aload_n 1, 1) := dk_43 (dk_at dksX9_fact_5 8 rfl rfl)
theorem dX9_fact_127 : decode cX9_fact 127 = .ok (.areturn, 1) := dk_176 (dk_at dksX9_fact_5 9 rfl rfl)
theorem dX9_fact_128 : decode cX9_fact 128 = .ok (.aload_n 0, 1) := dk_42 (dk_at dksX9_fact_5 10 rfl rfl)
theorem dX9_fact_129 : decode cX9_fact 129 = .ok (.ldc_w 262, 3) := dk_19 1 6 (dk_at dksX9_fact_5 11 rfl rfl)
theorem dX9_fact_132 : decode cX9_fact 132 = .ok (.invokevirtual 97, 3) := dk_182 0 97 (dk_at dksX9_fact_5 14 rfl rfl)
theorem dX9_fact_135 : decode cX9_fact 135 = .ok (.ifCond .eq 7, 3) := dk_153 0 7 (dk_at dksX9_fact_5 17 rfl rfl)
theorem dX9_fact_138 : decode cX9_fact 138 = .ok (.iconst 0, 1) := dk_3 (dk_at dksX9_fact_5 20 rfl rfl)
theorem dX9_fact_139 : decode cX9_fact 139 = .ok (.goto 73, 3) := dk_167 0 73 (dk_at dksX9_fact_5 21 rfl rfl)
theorem dX9_fact_142 : decode cX9_fact 142 = .ok (.aload_n 0, 1) := dk_42 (dk_at dksX9_fact_6 0 rfl rfl)
theorem dX9_fact_143 : decode cX9_fact 143 = .ok (.ldc 179, 2) := dk_18 179 (dk_at dksX9_fact_6 1 rfl rfl)
theorem dX9_fact_145 : decode cX9_fact 145 = .ok (.invokevirtual 97, 3) := dk_182 0 97 (dk_at dksX9_fact_6 3 rfl rfl)
theorem dX9_fact_148 : decode cX9_fact 148 = .ok (.ifCond .eq 7, 3) := dk_153 0 7 (dk_at dksX9_fact_6 6 rfl rfl)
theorem dX9_fact_151 : decode cX9_fact 151 = .ok (.iconst 1, 1) := dk_4 (dk_at dksX9_fact_6 9 rfl rfl)
theorem dX9_fact_152 : decode cX9_fact 152 = .ok (.goto 60, 3) := dk_167 0 60 (dk_at dksX9_fact_6 10 rfl rfl)
theorem dX9_fact_155 : decode cX9_fact 155 = .ok (.aload_n 0, 1) := dk_42 (dk_at dksX9_fact_6 13 rfl rfl)
theorem dX9_fact_156 : decode cX9_fact 156 = .ok (.ldc_w 264, 3) := dk_19 1 8 (dk_at dksX9_fact_6 14 rfl rfl)
theorem dX9_fact_159 : decode cX9_fact 159 = .ok (.invokevirtual 97, 3) := dk_182 0 97 (dk_at dksX9_fact_6 17 rfl rfl)
theorem dX9_fact_162 : decode cX9_fact 162 = .ok (.ifCond .eq 7, 3) := dk_153 0 7 (dk_at dksX9_fact_6 20 rfl rfl)
theorem dX9_fact_165 : decode cX9_fact 165 = .ok (.iconst 2, 1) := dk_5 (dk_at dksX9_fact_6 23 rfl rfl)
theorem dX9_fact_166 : decode cX9_fact 166 = .ok (.goto 46, 3) := dk_167 0 46 (dk_at dksX9_fact_7 0 rfl rfl)
theorem dX9_fact_169 : decode cX9_fact 169 = .ok (.aload_n 0, 1) := dk_42 (dk_at dksX9_fact_7 3 rfl rfl)
theorem dX9_fact_170 : decode cX9_fact 170 = .ok (.ldc_w 266, 3) := dk_19 1 10 (dk_at dksX9_fact_7 4 rfl rfl)
theorem dX9_fact_173 : decode cX9_fact 173 = .ok (.invokevirtual 97, 3) := dk_182 0 97 (dk_at dksX9_fact_7 7 rfl rfl)
theorem dX9_fact_176 : decode cX9_fact 176 = .ok (.ifCond .eq 7, 3) := dk_153 0 7 (dk_at dksX9_fact_7 10 rfl rfl)
theorem dX9_fact_179 : decode cX9_fact 179 = .ok (.iconst 3, 1) := dk_6 (dk_at dksX9_fact_7 13 rfl rfl)
theorem dX9_fact_180 : decode cX9_fact 180 = .ok (.goto 32, 3) := dk_167 0 32 (dk_at dksX9_fact_7 14 rfl rfl)
theorem dX9_fact_183 : decode cX9_fact 183 = .ok (.aload_n 0, 1) := dk_42 (dk_at dksX9_fact_7 17 rfl rfl)
theorem dX9_fact_184 : decode cX9_fact 184 = .ok (.ldc_w 268, 3) := dk_19 1 12 (dk_at dksX9_fact_7 18 rfl rfl)
theorem dX9_fact_187 : decode cX9_fact 187 = .ok (.invokevirtual 97, 3) := dk_182 0 97 (dk_at dksX9_fact_7 21 rfl rfl)
theorem dX9_fact_190 : decode cX9_fact 190 = .ok (.ifCond .eq 7, 3) := dk_153 0 7 (dk_at dksX9_fact_8 0 rfl rfl)
theorem dX9_fact_193 : decode cX9_fact 193 = .ok (.iconst 4, 1) := dk_7 (dk_at dksX9_fact_8 3 rfl rfl)
theorem dX9_fact_194 : decode cX9_fact 194 = .ok (.goto 18, 3) := dk_167 0 18 (dk_at dksX9_fact_8 4 rfl rfl)
theorem dX9_fact_197 : decode cX9_fact 197 = .ok (.aload_n 0, 1) := dk_42 (dk_at dksX9_fact_8 7 rfl rfl)
theorem dX9_fact_198 : decode cX9_fact 198 = .ok (.ldc_w 269, 3) := dk_19 1 13 (dk_at dksX9_fact_8 8 rfl rfl)
theorem dX9_fact_201 : decode cX9_fact 201 = .ok (.invokevirtual 97, 3) := dk_182 0 97 (dk_at dksX9_fact_8 11 rfl rfl)
theorem dX9_fact_204 : decode cX9_fact 204 = .ok (.ifCond .eq 7, 3) := dk_153 0 7 (dk_at dksX9_fact_8 14 rfl rfl)
theorem dX9_fact_207 : decode cX9_fact 207 = .ok (.iconst 5, 1) := dk_8 (dk_at dksX9_fact_8 17 rfl rfl)
theorem dX9_fact_208 : decode cX9_fact 208 = .ok (.goto 4, 3) := dk_167 0 4 (dk_at dksX9_fact_8 18 rfl rfl)
theorem dX9_fact_211 : decode cX9_fact 211 = .ok (.iconst (-1), 1) := dk_2 (dk_at dksX9_fact_8 21 rfl rfl)
theorem dX9_fact_212 : decode cX9_fact 212 = .ok (.istore_n 1, 1) := dk_60 (dk_at dksX9_fact_8 22 rfl rfl)
theorem dX9_fact_213 : decode cX9_fact 213 = .ok (.iload_n 1, 1) := dk_27 (dk_at dksX9_fact_8 23 rfl rfl)
theorem dX9_fact_214 : decode cX9_fact 214 = .ok (.iconst (-1), 1) := dk_2 (dk_at dksX9_fact_9 0 rfl rfl)
theorem dX9_fact_215 : decode cX9_fact 215 = .ok (.if_icmp .ne 8, 3) := dk_160 0 8 (dk_at dksX9_fact_9 1 rfl rfl)
theorem dX9_fact_218 : decode cX9_fact 218 = .ok (.aload_n 0, 1) := dk_42 (dk_at dksX9_fact_9 4 rfl rfl)
theorem dX9_fact_219 : decode cX9_fact 219 = .ok (.iconst 2, 1) := dk_5 (dk_at dksX9_fact_9 5 rfl rfl)
theorem dX9_fact_220 : decode cX9_fact 220 = .ok (.invokevirtual 100, 3) := dk_182 0 100 (dk_at dksX9_fact_9 6 rfl rfl)
theorem dX9_fact_223 : decode cX9_fact 223 = .ok (.new 271, 3) := dk_187 1 15 (dk_at dksX9_fact_9 9 rfl rfl)
theorem dX9_fact_226 : decode cX9_fact 226 = .ok (.dup, 1) := dk_89 (dk_at dksX9_fact_9 12 rfl rfl)
theorem dX9_fact_227 : decode cX9_fact 227 = .ok (.iload_n 1, 1) := dk_27 (dk_at dksX9_fact_9 13 rfl rfl)
theorem dX9_fact_228 : decode cX9_fact 228 = .ok (.aload_n 0, 1) := dk_42 (dk_at dksX9_fact_9 14 rfl rfl)
theorem dX9_fact_229 : decode cX9_fact 229 = .ok (.iload_n 1, 1) := dk_27 (dk_at dksX9_fact_9 15 rfl rfl)
theorem dX9_fact_230 : decode cX9_fact 230 = .ok (.iconst 1, 1) := dk_4 (dk_at dksX9_fact_9 16 rfl rfl)
theorem dX9_fact_231 : decode cX9_fact 231 = .ok (.if_icmp .ne 7, 3) := dk_160 0 7 (dk_at dksX9_fact_9 17 rfl rfl)
theorem dX9_fact_234 : decode cX9_fact 234 = .ok (.iconst 1, 1) := dk_4 (dk_at dksX9_fact_9 20 rfl rfl)
theorem dX9_fact_235 : decode cX9_fact 235 = .ok (.goto 4, 3) := dk_167 0 4 (dk_at dksX9_fact_9 21 rfl rfl)
theorem dX9_fact_238 : decode cX9_fact 238 = .ok (.iconst 0, 1) := dk_3 (dk_at dksX9_fact_10 0 rfl rfl)
theorem dX9_fact_239 : decode cX9_fact 239 = .ok (.iload_n 1, 1) := dk_27 (dk_at dksX9_fact_10 1 rfl rfl)
theorem dX9_fact_240 : decode cX9_fact 240 = .ok (.ifCond .ne 8, 3) := dk_154 0 8 (dk_at dksX9_fact_10 2 rfl rfl)
theorem dX9_fact_243 : decode cX9_fact 243 = .ok (.bipush 7, 2) := dk_16 7 (dk_at dksX9_fact_10 5 rfl rfl)
theorem dX9_fact_245 : decode cX9_fact 245 = .ok (.goto 32, 3) := dk_167 0 32 (dk_at dksX9_fact_10 7 rfl rfl)
theorem dX9_fact_248 : decode cX9_fact 248 = .ok (.iload_n 1, 1) := dk_27 (dk_at dksX9_fact_10 10 rfl rfl)
theorem dX9_fact_249 : decode cX9_fact 249 = .ok (.iconst 1, 1) := dk_4 (dk_at dksX9_fact_10 11 rfl rfl)
theorem dX9_fact_250 : decode cX9_fact 250 = .ok (.if_icmp .ne 8, 3) := dk_160 0 8 (dk_at dksX9_fact_10 12 rfl rfl)
theorem dX9_fact_253 : decode cX9_fact 253 = .ok (.bipush 9, 2) := dk_16 9 (dk_at dksX9_fact_10 15 rfl rfl)
theorem dX9_fact_255 : decode cX9_fact 255 = .ok (.goto 22, 3) := dk_167 0 22 (dk_at dksX9_fact_10 17 rfl rfl)
theorem dX9_fact_258 : decode cX9_fact 258 = .ok (.iload_n 1, 1) := dk_27 (dk_at dksX9_fact_10 20 rfl rfl)
theorem dX9_fact_259 : decode cX9_fact 259 = .ok (.iconst 4, 1) := dk_7 (dk_at dksX9_fact_10 21 rfl rfl)
theorem dX9_fact_260 : decode cX9_fact 260 = .ok (.if_icmp .ge 7, 3) := dk_162 0 7 (dk_at dksX9_fact_11 0 rfl rfl)
theorem dX9_fact_263 : decode cX9_fact 263 = .ok (.iconst 4, 1) := dk_7 (dk_at dksX9_fact_11 3 rfl rfl)
theorem dX9_fact_264 : decode cX9_fact 264 = .ok (.goto 13, 3) := dk_167 0 13 (dk_at dksX9_fact_11 4 rfl rfl)
theorem dX9_fact_267 : decode cX9_fact 267 = .ok (.iload_n 1, 1) := dk_27 (dk_at dksX9_fact_11 7 rfl rfl)
theorem dX9_fact_268 : decode cX9_fact 268 = .ok (.iconst 4, 1) := dk_7 (dk_at dksX9_fact_11 8 rfl rfl)
theorem dX9_fact_269 : decode cX9_fact 269 = .ok (.if_icmp .ne 7, 3) := dk_160 0 7 (dk_at dksX9_fact_11 9 rfl rfl)
theorem dX9_fact_272 : decode cX9_fact 272 = .ok (.iconst 2, 1) := dk_5 (dk_at dksX9_fact_11 12 rfl rfl)
theorem dX9_fact_273 : decode cX9_fact 273 = .ok (.goto 4, 3) := dk_167 0 4 (dk_at dksX9_fact_11 13 rfl rfl)
theorem dX9_fact_276 : decode cX9_fact 276 = .ok (.iconst 3, 1) := dk_6 (dk_at dksX9_fact_11 16 rfl rfl)
theorem dX9_fact_277 : decode cX9_fact 277 = .ok (.invokevirtual 139, 3) := dk_182 0 139 (dk_at dksX9_fact_11 17 rfl rfl)
theorem dX9_fact_280 : decode cX9_fact 280 = .ok (.invokespecial 273, 3) := dk_183 1 17 (dk_at dksX9_fact_11 20 rfl rfl)
theorem dX9_fact_283 : decode cX9_fact 283 = .ok (.areturn, 1) := dk_176 (dk_at dksX9_fact_11 23 rfl rfl)
abbrev cX9_opens : ByteArray := prog_11_method_24_code
def yX9_opens : MethodName := ⟨RX9, "opens", "()V"⟩
def dkwX9_opens_1 : List UInt8 := [42, 180, 0, 77, 154, 0, 7, 42, 182, 0, 94, 177]
abbrev dktX9_opens_1 : List UInt8 := dkwX9_opens_1 ++ []
def dkwX9_opens_0 : List UInt8 := [42, 180, 0, 249, 16, 8, 160, 0, 8, 42, 8, 182, 0, 100, 42, 89, 180, 0, 249, 4, 96, 181, 0, 249]
abbrev dktX9_opens_0 : List UInt8 := dkwX9_opens_0 ++ dktX9_opens_1
theorem dksX9_opens_0 : cX9_opens.data.toList.drop 0 = dktX9_opens_0 := by decide +kernel
theorem dksX9_opens_1 : cX9_opens.data.toList.drop 24 = dktX9_opens_1 := dk_seg dksX9_opens_0 24 rfl rfl
theorem dX9_opens_0 : decode cX9_opens 0 = .ok (.aload_n 0, 1) := dk_42 (dk_at dksX9_opens_0 0 rfl rfl)
theorem dX9_opens_1 : decode cX9_opens 1 = .ok (.getfield 249, 3) := dk_180 0 249 (dk_at dksX9_opens_0 1 rfl rfl)
theorem dX9_opens_4 : decode cX9_opens 4 = .ok (.bipush 8, 2) := dk_16 8 (dk_at dksX9_opens_0 4 rfl rfl)
theorem dX9_opens_6 : decode cX9_opens 6 = .ok (.if_icmp .ne 8, 3) := dk_160 0 8 (dk_at dksX9_opens_0 6 rfl rfl)
theorem dX9_opens_9 : decode cX9_opens 9 = .ok (.aload_n 0, 1) := dk_42 (dk_at dksX9_opens_0 9 rfl rfl)
theorem dX9_opens_10 : decode cX9_opens 10 = .ok (.iconst 5, 1) := dk_8 (dk_at dksX9_opens_0 10 rfl rfl)
theorem dX9_opens_11 : decode cX9_opens 11 = .ok (.invokevirtual 100, 3) := dk_182 0 100 (dk_at dksX9_opens_0 11 rfl rfl)
theorem dX9_opens_14 : decode cX9_opens 14 = .ok (.aload_n 0, 1) := dk_42 (dk_at dksX9_opens_0 14 rfl rfl)
theorem dX9_opens_15 : decode cX9_opens 15 = .ok (.dup, 1) := dk_89 (dk_at dksX9_opens_0 15 rfl rfl)
theorem dX9_opens_16 : decode cX9_opens 16 = .ok (.getfield 249, 3) := dk_180 0 249 (dk_at dksX9_opens_0 16 rfl rfl)
theorem dX9_opens_19 : decode cX9_opens 19 = .ok (.iconst 1, 1) := dk_4 (dk_at dksX9_opens_0 19 rfl rfl)
theorem dX9_opens_20 : decode cX9_opens 20 = .ok (.iadd, 1) := dk_96 (dk_at dksX9_opens_0 20 rfl rfl)
theorem dX9_opens_21 : decode cX9_opens 21 = .ok (.putfield 249, 3) := dk_181 0 249 (dk_at dksX9_opens_0 21 rfl rfl)
theorem dX9_opens_24 : decode cX9_opens 24 = .ok (.aload_n 0, 1) := dk_42 (dk_at dksX9_opens_1 0 rfl rfl)
theorem dX9_opens_25 : decode cX9_opens 25 = .ok (.getfield 77, 3) := dk_180 0 77 (dk_at dksX9_opens_1 1 rfl rfl)
theorem dX9_opens_28 : decode cX9_opens 28 = .ok (.ifCond .ne 7, 3) := dk_154 0 7 (dk_at dksX9_opens_1 4 rfl rfl)
theorem dX9_opens_31 : decode cX9_opens 31 = .ok (.aload_n 0, 1) := dk_42 (dk_at dksX9_opens_1 7 rfl rfl)
theorem dX9_opens_32 : decode cX9_opens 32 = .ok (.invokevirtual 94, 3) := dk_182 0 94 (dk_at dksX9_opens_1 8 rfl rfl)
theorem dX9_opens_35 : decode cX9_opens 35 = .ok (.return_, 1) := dk_177 (dk_at dksX9_opens_1 11 rfl rfl)
theorem q143 : (Jvm.Cond.initialized "StoneYear$Reader") ∈ lw_all := lw_g (lw_at lw_m1 15 rfl) rfl
theorem q219 : (Jvm.Cond.fieldLinkNest "StoneYear$Reader" (160 : Nat) "StoneYear$Town" "rows" "Ljava/util/ArrayList;" "StoneYear") ∈ lw_tbl := lw_at lw_m1 91 rfl
theorem q225 : (Jvm.Cond.fieldLinkNest "StoneYear$Reader" (176 : Nat) "StoneYear$Town" "stones" "Ljava/util/ArrayList;" "StoneYear") ∈ lw_tbl := lw_at lw_m1 97 rfl
theorem q228 : (Jvm.Cond.fieldLinkNest "StoneYear$Reader" (215 : Nat) "StoneYear$Town" "musts" "Ljava/util/ArrayList;" "StoneYear") ∈ lw_tbl := lw_at lw_m1 100 rfl
theorem q232 : (Jvm.Cond.fieldLinkNest "StoneYear$Reader" (143 : Nat) "StoneYear$Town" "over" "I" "StoneYear") ∈ lw_tbl := lw_at lw_m1 104 rfl
theorem q236 : (Jvm.Cond.fieldLinkNest "StoneYear$Reader" (147 : Nat) "StoneYear$Town" "most" "I" "StoneYear") ∈ lw_tbl := lw_at lw_m1 108 rfl
theorem q239 : (Jvm.Cond.fieldLinkNest "StoneYear$Reader" (113 : Nat) "StoneYear$Town" "lines" "I" "StoneYear") ∈ lw_tbl := lw_at lw_m1 111 rfl
theorem q241 : (Jvm.Cond.fieldLinkNest "StoneYear$Reader" (151 : Nat) "StoneYear$Town" "rings" "Z" "StoneYear") ∈ lw_tbl := lw_at lw_m1 113 rfl
theorem q243 : (Jvm.Cond.fieldLinkNest "StoneYear$Reader" (157 : Nat) "StoneYear$Town" "floods" "Z" "StoneYear") ∈ lw_tbl := lw_at lw_m1 115 rfl
theorem q445 : (Jvm.Cond.fieldLinkNest "StoneYear$Reader" (38 : Nat) "StoneYear" "tape" "[B" "StoneYear") ∈ lw_tbl := lw_at lw_m2 77 rfl
theorem q531 : (Jvm.Cond.instantiable "StoneYear$Reader" (11 : Nat)) ∈ lw_all := lw_g (lw_at lw_m2 163 rfl) rfl
theorem q533 : (Jvm.Cond.instanceMethod ({ cls := "StoneYear$Reader", name := "<init>", desc := "(LStoneYear;I)V" } : Jvm.MethodName)) ∈ lw_all := lw_g (lw_at lw_m2 165 rfl) rfl
theorem q534 : (Jvm.Cond.code ({ cls := "StoneYear$Reader", name := "<init>", desc := "(LStoneYear;I)V" } : Jvm.MethodName) prog_11_method_1_code (3 : Nat) (Option.none : Option Jvm.ClassFile.FieldType)) ∈ lw_all := lw_g (lw_at lw_m2 166 rfl) rfl
theorem q535 : (Jvm.Cond.methodLink "StoneYear$Reader" (9 : Nat) ({ cls := "java/lang/Object", name := "<init>", desc := "()V" } : Jvm.MethodName)) ∈ lw_all := lw_g (lw_at lw_m2 167 rfl) rfl
theorem q536 : (Jvm.Cond.classLink "StoneYear$Reader" (15 : Nat) "StoneYear$Town") ∈ lw_all := lw_g (lw_at lw_m2 168 rfl) rfl
theorem q537 : (Jvm.Cond.methodLinkNest "StoneYear$Reader" (17 : Nat) ({ cls := "StoneYear$Town", name := "<init>", desc := "()V" } : Jvm.MethodName) "StoneYear") ∈ lw_tbl := lw_at lw_m2 169 rfl
theorem q538 : (Jvm.Cond.classLink "StoneYear$Reader" (22 : Nat) "java/util/ArrayList") ∈ lw_all := lw_g (lw_at lw_m2 170 rfl) rfl
theorem q539 : (Jvm.Cond.methodLink "StoneYear$Reader" (24 : Nat) ({ cls := "java/util/ArrayList", name := "<init>", desc := "(I)V" } : Jvm.MethodName)) ∈ lw_all := lw_g (lw_at lw_m2 171 rfl) rfl
theorem q540 : (Jvm.Cond.fieldLink "StoneYear$Reader" (35 : Nat) "StoneYear$Reader" "size" "I") ∈ lw_all := lw_g (lw_at lw_m2 172 rfl) rfl
theorem q541 : (Jvm.Cond.fieldLink "StoneYear$Reader" (18 : Nat) "StoneYear$Reader" "town" "LStoneYear$Town;") ∈ lw_all := lw_g (lw_at lw_m2 173 rfl) rfl
theorem q543 : (Jvm.Cond.fieldLink "StoneYear$Reader" (27 : Nat) "StoneYear$Reader" "bars" "Ljava/util/ArrayList;") ∈ lw_all := lw_g (lw_at lw_m2 175 rfl) rfl
theorem q545 : (Jvm.Cond.fieldLink "StoneYear$Reader" (58 : Nat) "StoneYear$Reader" "at" "I") ∈ lw_all := lw_g (lw_at lw_m2 177 rfl) rfl
theorem q546 : (Jvm.Cond.fieldLink "StoneYear$Reader" (61 : Nat) "StoneYear$Reader" "begin" "I") ∈ lw_all := lw_g (lw_at lw_m2 178 rfl) rfl
theorem q547 : (Jvm.Cond.fieldLink "StoneYear$Reader" (64 : Nat) "StoneYear$Reader" "token" "I") ∈ lw_all := lw_g (lw_at lw_m2 179 rfl) rfl
theorem q548 : (Jvm.Cond.fieldLink "StoneYear$Reader" (74 : Nat) "StoneYear$Reader" "value" "I") ∈ lw_all := lw_g (lw_at lw_m2 180 rfl) rfl
theorem q549 : (Jvm.Cond.fieldLink "StoneYear$Reader" (249 : Nat) "StoneYear$Reader" "open" "I") ∈ lw_all := lw_g (lw_at lw_m2 181 rfl) rfl
theorem q550 : (Jvm.Cond.fieldLink "StoneYear$Reader" (77 : Nat) "StoneYear$Reader" "fault" "I") ∈ lw_all := lw_g (lw_at lw_m2 182 rfl) rfl
theorem q552 : (Jvm.Cond.fieldLink "StoneYear$Reader" (31 : Nat) "StoneYear$Reader" "place" "I") ∈ lw_all := lw_g (lw_at lw_m2 184 rfl) rfl
theorem q554 : (Jvm.Cond.fieldLink "StoneYear$Reader" (3 : Nat) "StoneYear$Reader" "this$0" "LStoneYear;") ∈ lw_all := lw_g (lw_at lw_m2 186 rfl) rfl
theorem q555 : (Jvm.Cond.laysFinal "StoneYear$Reader" "StoneYear$Reader" "size" "I") ∈ lw_all := lw_g (lw_at lw_m2 187 rfl) rfl
theorem q556 : (Jvm.Cond.soleField "StoneYear$Reader" "size") ∈ lw_all := lw_g (lw_at lw_m2 188 rfl) rfl
theorem q557 : (Jvm.Cond.laysFinal "StoneYear$Reader" "StoneYear$Reader" "town" "LStoneYear$Town;") ∈ lw_all := lw_g (lw_at lw_m2 189 rfl) rfl
theorem q558 : (Jvm.Cond.soleField "StoneYear$Reader" "town") ∈ lw_all := lw_g (lw_at lw_m2 190 rfl) rfl
theorem q559 : (Jvm.Cond.laysFinal "StoneYear$Reader" "StoneYear$Reader" "bars" "Ljava/util/ArrayList;") ∈ lw_all := lw_g (lw_at lw_m2 191 rfl) rfl
theorem q560 : (Jvm.Cond.soleField "StoneYear$Reader" "bars") ∈ lw_all := lw_g (lw_at lw_m2 192 rfl) rfl
theorem q561 : (Jvm.Cond.lays "StoneYear$Reader" "StoneYear$Reader" "at" "I") ∈ lw_all := lw_g (lw_at lw_m2 193 rfl) rfl
theorem q562 : (Jvm.Cond.soleField "StoneYear$Reader" "at") ∈ lw_all := lw_g (lw_at lw_m2 194 rfl) rfl
theorem q563 : (Jvm.Cond.lays "StoneYear$Reader" "StoneYear$Reader" "begin" "I") ∈ lw_all := lw_g (lw_at lw_m2 195 rfl) rfl
theorem q564 : (Jvm.Cond.soleField "StoneYear$Reader" "begin") ∈ lw_all := lw_g (lw_at lw_m2 196 rfl) rfl
theorem q565 : (Jvm.Cond.lays "StoneYear$Reader" "StoneYear$Reader" "token" "I") ∈ lw_all := lw_g (lw_at lw_m2 197 rfl) rfl
theorem q566 : (Jvm.Cond.soleField "StoneYear$Reader" "token") ∈ lw_all := lw_g (lw_at lw_m2 198 rfl) rfl
theorem q567 : (Jvm.Cond.lays "StoneYear$Reader" "StoneYear$Reader" "value" "I") ∈ lw_all := lw_g (lw_at lw_m2 199 rfl) rfl
theorem q568 : (Jvm.Cond.soleField "StoneYear$Reader" "value") ∈ lw_all := lw_g (lw_at lw_m2 200 rfl) rfl
theorem q569 : (Jvm.Cond.lays "StoneYear$Reader" "StoneYear$Reader" "open" "I") ∈ lw_all := lw_g (lw_at lw_m2 201 rfl) rfl
theorem q570 : (Jvm.Cond.soleField "StoneYear$Reader" "open") ∈ lw_all := lw_g (lw_at lw_m2 202 rfl) rfl
theorem q571 : (Jvm.Cond.lays "StoneYear$Reader" "StoneYear$Reader" "fault" "I") ∈ lw_all := lw_g (lw_at lw_m2 203 rfl) rfl
theorem q572 : (Jvm.Cond.soleField "StoneYear$Reader" "fault") ∈ lw_all := lw_g (lw_at lw_m2 204 rfl) rfl
theorem q573 : (Jvm.Cond.lays "StoneYear$Reader" "StoneYear$Reader" "place" "I") ∈ lw_all := lw_g (lw_at lw_m2 205 rfl) rfl
theorem q574 : (Jvm.Cond.soleField "StoneYear$Reader" "place") ∈ lw_all := lw_g (lw_at lw_m2 206 rfl) rfl
theorem q575 : (Jvm.Cond.laysFinal "StoneYear$Reader" "StoneYear$Reader" "this$0" "LStoneYear;") ∈ lw_all := lw_g (lw_at lw_m2 207 rfl) rfl
theorem q576 : (Jvm.Cond.soleField "StoneYear$Reader" "this$0") ∈ lw_all := lw_g (lw_at lw_m2 208 rfl) rfl
theorem q577 : (Jvm.Cond.superclass "StoneYear$Reader" "java/lang/Object") ∈ lw_all := lw_g (lw_at lw_m2 209 rfl) rfl
theorem q579 : (Jvm.Cond.instanceMethod ({ cls := "StoneYear$Reader", name := "town", desc := "()V" } : Jvm.MethodName)) ∈ lw_all := lw_g (lw_at lw_m2 211 rfl) rfl
theorem q580 : (Jvm.Cond.selects "StoneYear$Reader" ({ cls := "StoneYear$Reader", name := "town", desc := "()V" } : Jvm.MethodName) ({ cls := "StoneYear$Reader", name := "town", desc := "()V" } : Jvm.MethodName)) ∈ lw_all := lw_g (lw_at lw_m2 212 rfl) rfl
theorem q581 : (Jvm.Cond.code ({ cls := "StoneYear$Reader", name := "town", desc := "()V" } : Jvm.MethodName) prog_11_method_14_code (1 : Nat) (Option.none : Option Jvm.ClassFile.FieldType)) ∈ lw_all := lw_g (lw_at lw_m2 213 rfl) rfl
theorem q582 : (Jvm.Cond.methodLink "StoneYear$Reader" (94 : Nat) ({ cls := "StoneYear$Reader", name := "next", desc := "()V" } : Jvm.MethodName)) ∈ lw_all := lw_g (lw_at lw_m2 214 rfl) rfl
theorem q583 : (Jvm.Cond.privateMethod ({ cls := "StoneYear$Reader", name := "next", desc := "()V" } : Jvm.MethodName)) ∈ lw_tbl := lw_at lw_m2 215 rfl
theorem q584 : (Jvm.Cond.instanceMethod ({ cls := "StoneYear$Reader", name := "next", desc := "()V" } : Jvm.MethodName)) ∈ lw_all := lw_g (lw_at lw_m2 216 rfl) rfl
theorem q585 : (Jvm.Cond.code ({ cls := "StoneYear$Reader", name := "next", desc := "()V" } : Jvm.MethodName) prog_11_method_5_code (2 : Nat) (Option.none : Option Jvm.ClassFile.FieldType)) ∈ lw_all := lw_g (lw_at lw_m2 217 rfl) rfl
theorem q586 : (Jvm.Cond.methodLink "StoneYear$Reader" (42 : Nat) ({ cls := "StoneYear$Reader", name := "see", desc := "(I)I" } : Jvm.MethodName)) ∈ lw_all := lw_g (lw_at lw_m2 218 rfl) rfl
theorem q587 : (Jvm.Cond.privateMethod ({ cls := "StoneYear$Reader", name := "see", desc := "(I)I" } : Jvm.MethodName)) ∈ lw_tbl := lw_at lw_m2 219 rfl
theorem q588 : (Jvm.Cond.instanceMethod ({ cls := "StoneYear$Reader", name := "see", desc := "(I)I" } : Jvm.MethodName)) ∈ lw_all := lw_g (lw_at lw_m2 220 rfl) rfl
theorem q589 : (Jvm.Cond.code ({ cls := "StoneYear$Reader", name := "see", desc := "(I)I" } : Jvm.MethodName) prog_11_method_2_code (2 : Nat) (Option.some Jvm.ClassFile.FieldType.int)) ∈ lw_all := lw_g (lw_at lw_m2 221 rfl) rfl
theorem q590 : (Jvm.Cond.methodLink "StoneYear$Reader" (67 : Nat) ({ cls := "StoneYear$Reader", name := "isSmall", desc := "(I)Z" } : Jvm.MethodName)) ∈ lw_all := lw_g (lw_at lw_m2 222 rfl) rfl
theorem q591 : (Jvm.Cond.privateMethod ({ cls := "StoneYear$Reader", name := "isSmall", desc := "(I)Z" } : Jvm.MethodName)) ∈ lw_tbl := lw_at lw_m2 223 rfl
theorem q592 : (Jvm.Cond.instanceMethod ({ cls := "StoneYear$Reader", name := "isSmall", desc := "(I)Z" } : Jvm.MethodName)) ∈ lw_all := lw_g (lw_at lw_m2 224 rfl) rfl
theorem q593 : (Jvm.Cond.code ({ cls := "StoneYear$Reader", name := "isSmall", desc := "(I)Z" } : Jvm.MethodName) prog_11_method_3_code (2 : Nat) (Option.some Jvm.ClassFile.FieldType.boolean)) ∈ lw_all := lw_g (lw_at lw_m2 225 rfl) rfl
theorem q594 : (Jvm.Cond.constantLong "StoneYear$Reader" (46 : Nat) (97 : Int64)) ∈ lw_all := lw_g (lw_at lw_m2 226 rfl) rfl
theorem q595 : (Jvm.Cond.constantLong "StoneYear$Reader" (48 : Nat) (122 : Int64)) ∈ lw_all := lw_g (lw_at lw_m2 227 rfl) rfl
theorem q596 : (Jvm.Cond.methodLinkNest "StoneYear$Reader" (50 : Nat) ({ cls := "StoneYear", name := "in", desc := "(JJJ)Z" } : Jvm.MethodName) "StoneYear") ∈ lw_tbl := lw_at lw_m2 228 rfl
theorem q597 : (Jvm.Cond.methodLink "StoneYear$Reader" (71 : Nat) ({ cls := "StoneYear$Reader", name := "isDigit", desc := "(I)Z" } : Jvm.MethodName)) ∈ lw_all := lw_g (lw_at lw_m2 229 rfl) rfl
theorem q598 : (Jvm.Cond.privateMethod ({ cls := "StoneYear$Reader", name := "isDigit", desc := "(I)Z" } : Jvm.MethodName)) ∈ lw_tbl := lw_at lw_m2 230 rfl
theorem q599 : (Jvm.Cond.instanceMethod ({ cls := "StoneYear$Reader", name := "isDigit", desc := "(I)Z" } : Jvm.MethodName)) ∈ lw_all := lw_g (lw_at lw_m2 231 rfl) rfl
theorem q600 : (Jvm.Cond.code ({ cls := "StoneYear$Reader", name := "isDigit", desc := "(I)Z" } : Jvm.MethodName) prog_11_method_4_code (2 : Nat) (Option.some Jvm.ClassFile.FieldType.boolean)) ∈ lw_all := lw_g (lw_at lw_m2 232 rfl) rfl
theorem q601 : (Jvm.Cond.constantLong "StoneYear$Reader" (54 : Nat) (48 : Int64)) ∈ lw_all := lw_g (lw_at lw_m2 233 rfl) rfl
theorem q602 : (Jvm.Cond.constantLong "StoneYear$Reader" (56 : Nat) (57 : Int64)) ∈ lw_all := lw_g (lw_at lw_m2 234 rfl) rfl
theorem q603 : (Jvm.Cond.methodLink "StoneYear$Reader" (107 : Nat) ({ cls := "StoneYear$Reader", name := "line", desc := "()V" } : Jvm.MethodName)) ∈ lw_all := lw_g (lw_at lw_m2 235 rfl) rfl
theorem q604 : (Jvm.Cond.privateMethod ({ cls := "StoneYear$Reader", name := "line", desc := "()V" } : Jvm.MethodName)) ∈ lw_tbl := lw_at lw_m2 236 rfl
theorem q605 : (Jvm.Cond.instanceMethod ({ cls := "StoneYear$Reader", name := "line", desc := "()V" } : Jvm.MethodName)) ∈ lw_all := lw_g (lw_at lw_m2 237 rfl) rfl
theorem q606 : (Jvm.Cond.code ({ cls := "StoneYear$Reader", name := "line", desc := "()V" } : Jvm.MethodName) prog_11_method_15_code (1 : Nat) (Option.none : Option Jvm.ClassFile.FieldType)) ∈ lw_all := lw_g (lw_at lw_m2 238 rfl) rfl
theorem q607 : (Jvm.Cond.stringRef "StoneYear$Reader" (116 : Nat) "row") ∈ lw_tbl := lw_at lw_m2 239 rfl
theorem q608 : (Jvm.Cond.methodLink "StoneYear$Reader" (90 : Nat) ({ cls := "StoneYear$Reader", name := "is", desc := "(Ljava/lang/String;)Z" } : Jvm.MethodName)) ∈ lw_all := lw_g (lw_at lw_m3 0 rfl) rfl
theorem q609 : (Jvm.Cond.privateMethod ({ cls := "StoneYear$Reader", name := "is", desc := "(Ljava/lang/String;)Z" } : Jvm.MethodName)) ∈ lw_tbl := lw_at lw_m3 1 rfl
theorem q610 : (Jvm.Cond.instanceMethod ({ cls := "StoneYear$Reader", name := "is", desc := "(Ljava/lang/String;)Z" } : Jvm.MethodName)) ∈ lw_all := lw_g (lw_at lw_m3 2 rfl) rfl
theorem q611 : (Jvm.Cond.code ({ cls := "StoneYear$Reader", name := "is", desc := "(Ljava/lang/String;)Z" } : Jvm.MethodName) prog_11_method_7_code (3 : Nat) (Option.some Jvm.ClassFile.FieldType.boolean)) ∈ lw_all := lw_g (lw_at lw_m3 3 rfl) rfl
theorem q612 : (Jvm.Cond.methodLink "StoneYear$Reader" (80 : Nat) ({ cls := "java/lang/String", name := "length", desc := "()I" } : Jvm.MethodName)) ∈ lw_all := lw_g (lw_at lw_m3 4 rfl) rfl
theorem q622 : (Jvm.Cond.methodLink "StoneYear$Reader" (86 : Nat) ({ cls := "java/lang/String", name := "charAt", desc := "(I)C" } : Jvm.MethodName)) ∈ lw_all := lw_g (lw_at lw_m3 14 rfl) rfl
theorem q658 : (Jvm.Cond.methodLink "StoneYear$Reader" (118 : Nat) ({ cls := "StoneYear$Reader", name := "row", desc := "()V" } : Jvm.MethodName)) ∈ lw_all := lw_g (lw_at lw_m3 50 rfl) rfl
theorem q659 : (Jvm.Cond.privateMethod ({ cls := "StoneYear$Reader", name := "row", desc := "()V" } : Jvm.MethodName)) ∈ lw_tbl := lw_at lw_m3 51 rfl
theorem q660 : (Jvm.Cond.instanceMethod ({ cls := "StoneYear$Reader", name := "row", desc := "()V" } : Jvm.MethodName)) ∈ lw_all := lw_g (lw_at lw_m3 52 rfl) rfl
theorem q661 : (Jvm.Cond.code ({ cls := "StoneYear$Reader", name := "row", desc := "()V" } : Jvm.MethodName) prog_11_method_17_code (2 : Nat) (Option.none : Option Jvm.ClassFile.FieldType)) ∈ lw_all := lw_g (lw_at lw_m3 53 rfl) rfl
theorem q662 : (Jvm.Cond.methodLink "StoneYear$Reader" (163 : Nat) ({ cls := "java/util/ArrayList", name := "size", desc := "()I" } : Jvm.MethodName)) ∈ lw_all := lw_g (lw_at lw_m3 54 rfl) rfl
theorem q663 : (Jvm.Cond.methodLink "StoneYear$Reader" (165 : Nat) ({ cls := "StoneYear$Reader", name := "space", desc := "(Z)V" } : Jvm.MethodName)) ∈ lw_all := lw_g (lw_at lw_m3 55 rfl) rfl
theorem q664 : (Jvm.Cond.privateMethod ({ cls := "StoneYear$Reader", name := "space", desc := "(Z)V" } : Jvm.MethodName)) ∈ lw_tbl := lw_at lw_m3 56 rfl
theorem q665 : (Jvm.Cond.instanceMethod ({ cls := "StoneYear$Reader", name := "space", desc := "(Z)V" } : Jvm.MethodName)) ∈ lw_all := lw_g (lw_at lw_m3 57 rfl) rfl
theorem q666 : (Jvm.Cond.code ({ cls := "StoneYear$Reader", name := "space", desc := "(Z)V" } : Jvm.MethodName) prog_11_method_13_code (2 : Nat) (Option.none : Option Jvm.ClassFile.FieldType)) ∈ lw_all := lw_g (lw_at lw_m3 58 rfl) rfl
theorem q667 : (Jvm.Cond.methodLink "StoneYear$Reader" (100 : Nat) ({ cls := "StoneYear$Reader", name := "wrong", desc := "(I)V" } : Jvm.MethodName)) ∈ lw_all := lw_g (lw_at lw_m3 59 rfl) rfl
theorem q668 : (Jvm.Cond.privateMethod ({ cls := "StoneYear$Reader", name := "wrong", desc := "(I)V" } : Jvm.MethodName)) ∈ lw_tbl := lw_at lw_m3 60 rfl
theorem q669 : (Jvm.Cond.instanceMethod ({ cls := "StoneYear$Reader", name := "wrong", desc := "(I)V" } : Jvm.MethodName)) ∈ lw_all := lw_g (lw_at lw_m3 61 rfl) rfl
theorem q670 : (Jvm.Cond.code ({ cls := "StoneYear$Reader", name := "wrong", desc := "(I)V" } : Jvm.MethodName) prog_11_method_6_code (2 : Nat) (Option.none : Option Jvm.ClassFile.FieldType)) ∈ lw_all := lw_g (lw_at lw_m3 62 rfl) rfl
theorem q671 : (Jvm.Cond.methodLink "StoneYear$Reader" (139 : Nat) ({ cls := "StoneYear$Reader", name := "number", desc := "(II)I" } : Jvm.MethodName)) ∈ lw_all := lw_g (lw_at lw_m3 63 rfl) rfl
theorem q672 : (Jvm.Cond.privateMethod ({ cls := "StoneYear$Reader", name := "number", desc := "(II)I" } : Jvm.MethodName)) ∈ lw_tbl := lw_at lw_m3 64 rfl
theorem q673 : (Jvm.Cond.instanceMethod ({ cls := "StoneYear$Reader", name := "number", desc := "(II)I" } : Jvm.MethodName)) ∈ lw_all := lw_g (lw_at lw_m3 65 rfl) rfl
theorem q674 : (Jvm.Cond.code ({ cls := "StoneYear$Reader", name := "number", desc := "(II)I" } : Jvm.MethodName) prog_11_method_11_code (4 : Nat) (Option.some Jvm.ClassFile.FieldType.int)) ∈ lw_all := lw_g (lw_at lw_m3 66 rfl) rfl
theorem q675 : (Jvm.Cond.methodLink "StoneYear$Reader" (103 : Nat) ({ cls := "StoneYear$Reader", name := "seen", desc := "(II)Z" } : Jvm.MethodName)) ∈ lw_all := lw_g (lw_at lw_m3 67 rfl) rfl
theorem q676 : (Jvm.Cond.privateMethod ({ cls := "StoneYear$Reader", name := "seen", desc := "(II)Z" } : Jvm.MethodName)) ∈ lw_tbl := lw_at lw_m3 68 rfl
theorem q677 : (Jvm.Cond.instanceMethod ({ cls := "StoneYear$Reader", name := "seen", desc := "(II)Z" } : Jvm.MethodName)) ∈ lw_all := lw_g (lw_at lw_m3 69 rfl) rfl
theorem q678 : (Jvm.Cond.code ({ cls := "StoneYear$Reader", name := "seen", desc := "(II)Z" } : Jvm.MethodName) prog_11_method_10_code (3 : Nat) (Option.some Jvm.ClassFile.FieldType.boolean)) ∈ lw_all := lw_g (lw_at lw_m3 70 rfl) rfl
theorem q679 : (Jvm.Cond.classLink "StoneYear$Reader" (169 : Nat) "StoneYear$Row") ∈ lw_all := lw_g (lw_at lw_m3 71 rfl) rfl
theorem q681 : (Jvm.Cond.methodLink "StoneYear$Reader" (171 : Nat) ({ cls := "StoneYear$Row", name := "<init>", desc := "(I)V" } : Jvm.MethodName)) ∈ lw_all := lw_g (lw_at lw_m3 73 rfl) rfl
theorem q688 : (Jvm.Cond.fieldLinkNest "StoneYear$Reader" (192 : Nat) "StoneYear$Row" "high" "I" "StoneYear") ∈ lw_tbl := lw_at lw_m3 80 rfl
theorem q693 : (Jvm.Cond.fieldLinkNest "StoneYear$Reader" (209 : Nat) "StoneYear$Row" "wish" "[I" "StoneYear") ∈ lw_tbl := lw_at lw_m3 85 rfl
theorem q698 : (Jvm.Cond.fieldLinkNest "StoneYear$Reader" (202 : Nat) "StoneYear$Row" "wished" "I" "StoneYear") ∈ lw_tbl := lw_at lw_m3 90 rfl
theorem q701 : (Jvm.Cond.fieldLinkNest "StoneYear$Reader" (212 : Nat) "StoneYear$Row" "whose" "I" "StoneYear") ∈ lw_tbl := lw_at lw_m3 93 rfl
theorem q702 : (Jvm.Cond.fieldLinkNest "StoneYear$Reader" (189 : Nat) "StoneYear$Row" "lay" "I" "StoneYear") ∈ lw_tbl := lw_at lw_m3 94 rfl
theorem q714 : (Jvm.Cond.methodLink "StoneYear$Reader" (172 : Nat) ({ cls := "java/util/ArrayList", name := "add", desc := "(Ljava/lang/Object;)Z" } : Jvm.MethodName)) ∈ lw_all := lw_g (lw_at lw_m3 106 rfl) rfl
theorem q756 : (Jvm.Cond.selects "StoneYear$Reader" ({ cls := "java/lang/Object", name := "getClass", desc := "()Ljava/lang/Class;" } : Jvm.MethodName) ({ cls := "java/lang/Object", name := "getClass", desc := "()Ljava/lang/Class;" } : Jvm.MethodName)) ∈ lw_all := lw_g (lw_at lw_m3 148 rfl) rfl
theorem q782 : (Jvm.Cond.stringRef "StoneYear$Reader" (120 : Nat) "stone") ∈ lw_tbl := lw_at lw_m3 174 rfl
theorem q783 : (Jvm.Cond.methodLink "StoneYear$Reader" (122 : Nat) ({ cls := "StoneYear$Reader", name := "stone", desc := "()V" } : Jvm.MethodName)) ∈ lw_all := lw_g (lw_at lw_m3 175 rfl) rfl
theorem q784 : (Jvm.Cond.privateMethod ({ cls := "StoneYear$Reader", name := "stone", desc := "()V" } : Jvm.MethodName)) ∈ lw_tbl := lw_at lw_m3 176 rfl
theorem q785 : (Jvm.Cond.instanceMethod ({ cls := "StoneYear$Reader", name := "stone", desc := "()V" } : Jvm.MethodName)) ∈ lw_all := lw_g (lw_at lw_m3 177 rfl) rfl
theorem q786 : (Jvm.Cond.code ({ cls := "StoneYear$Reader", name := "stone", desc := "()V" } : Jvm.MethodName) prog_11_method_18_code (5 : Nat) (Option.none : Option Jvm.ClassFile.FieldType)) ∈ lw_all := lw_g (lw_at lw_m3 178 rfl) rfl
theorem q787 : (Jvm.Cond.stringRef "StoneYear$Reader" (179 : Nat) "size") ∈ lw_tbl := lw_at lw_m3 179 rfl
theorem q788 : (Jvm.Cond.methodLink "StoneYear$Reader" (180 : Nat) ({ cls := "StoneYear$Reader", name := "need", desc := "(Ljava/lang/String;)V" } : Jvm.MethodName)) ∈ lw_all := lw_g (lw_at lw_m3 180 rfl) rfl
theorem q789 : (Jvm.Cond.privateMethod ({ cls := "StoneYear$Reader", name := "need", desc := "(Ljava/lang/String;)V" } : Jvm.MethodName)) ∈ lw_tbl := lw_at lw_m3 181 rfl
theorem q790 : (Jvm.Cond.instanceMethod ({ cls := "StoneYear$Reader", name := "need", desc := "(Ljava/lang/String;)V" } : Jvm.MethodName)) ∈ lw_all := lw_g (lw_at lw_m3 182 rfl) rfl
theorem q791 : (Jvm.Cond.code ({ cls := "StoneYear$Reader", name := "need", desc := "(Ljava/lang/String;)V" } : Jvm.MethodName) prog_11_method_9_code (2 : Nat) (Option.none : Option Jvm.ClassFile.FieldType)) ∈ lw_all := lw_g (lw_at lw_m3 183 rfl) rfl
theorem q792 : (Jvm.Cond.methodLink "StoneYear$Reader" (97 : Nat) ({ cls := "StoneYear$Reader", name := "takes", desc := "(Ljava/lang/String;)Z" } : Jvm.MethodName)) ∈ lw_all := lw_g (lw_at lw_m3 184 rfl) rfl
theorem q793 : (Jvm.Cond.privateMethod ({ cls := "StoneYear$Reader", name := "takes", desc := "(Ljava/lang/String;)Z" } : Jvm.MethodName)) ∈ lw_tbl := lw_at lw_m3 185 rfl
theorem q794 : (Jvm.Cond.instanceMethod ({ cls := "StoneYear$Reader", name := "takes", desc := "(Ljava/lang/String;)Z" } : Jvm.MethodName)) ∈ lw_all := lw_g (lw_at lw_m3 186 rfl) rfl
theorem q795 : (Jvm.Cond.code ({ cls := "StoneYear$Reader", name := "takes", desc := "(Ljava/lang/String;)Z" } : Jvm.MethodName) prog_11_method_8_code (2 : Nat) (Option.some Jvm.ClassFile.FieldType.boolean)) ∈ lw_all := lw_g (lw_at lw_m3 187 rfl) rfl
theorem q796 : (Jvm.Cond.stringRef "StoneYear$Reader" (184 : Nat) "at") ∈ lw_tbl := lw_at lw_m3 188 rfl
theorem q797 : (Jvm.Cond.methodLink "StoneYear$Reader" (185 : Nat) ({ cls := "java/util/ArrayList", name := "get", desc := "(I)Ljava/lang/Object;" } : Jvm.MethodName)) ∈ lw_all := lw_g (lw_at lw_m3 189 rfl) rfl
theorem q798 : (Jvm.Cond.stringRef "StoneYear$Reader" (195 : Nat) "bears") ∈ lw_tbl := lw_at lw_m3 190 rfl
theorem q799 : (Jvm.Cond.classLink "StoneYear$Reader" (197 : Nat) "StoneYear$Stone") ∈ lw_all := lw_g (lw_at lw_m3 191 rfl) rfl
theorem q801 : (Jvm.Cond.methodLink "StoneYear$Reader" (199 : Nat) ({ cls := "StoneYear$Stone", name := "<init>", desc := "(IIII)V" } : Jvm.MethodName)) ∈ lw_all := lw_g (lw_at lw_m3 193 rfl) rfl
theorem q826 : (Jvm.Cond.stringRef "StoneYear$Reader" (124 : Nat) "wish") ∈ lw_tbl := lw_at lw_m3 218 rfl
theorem q827 : (Jvm.Cond.methodLink "StoneYear$Reader" (126 : Nat) ({ cls := "StoneYear$Reader", name := "wish", desc := "()V" } : Jvm.MethodName)) ∈ lw_all := lw_g (lw_at lw_m3 219 rfl) rfl
theorem q828 : (Jvm.Cond.privateMethod ({ cls := "StoneYear$Reader", name := "wish", desc := "()V" } : Jvm.MethodName)) ∈ lw_tbl := lw_at lw_m3 220 rfl
theorem q829 : (Jvm.Cond.instanceMethod ({ cls := "StoneYear$Reader", name := "wish", desc := "()V" } : Jvm.MethodName)) ∈ lw_all := lw_g (lw_at lw_m3 221 rfl) rfl
theorem q830 : (Jvm.Cond.code ({ cls := "StoneYear$Reader", name := "wish", desc := "()V" } : Jvm.MethodName) prog_11_method_19_code (6 : Nat) (Option.none : Option Jvm.ClassFile.FieldType)) ∈ lw_all := lw_g (lw_at lw_m3 222 rfl) rfl
theorem q831 : (Jvm.Cond.stringRef "StoneYear$Reader" (205 : Nat) "by") ∈ lw_tbl := lw_at lw_m3 223 rfl
theorem q832 : (Jvm.Cond.stringRef "StoneYear$Reader" (207 : Nat) "for") ∈ lw_tbl := lw_at lw_m3 224 rfl
theorem q833 : (Jvm.Cond.stringRef "StoneYear$Reader" (128 : Nat) "roof") ∈ lw_tbl := lw_at lw_m3 225 rfl
theorem q834 : (Jvm.Cond.stringRef "StoneYear$Reader" (130 : Nat) "lane") ∈ lw_tbl := lw_at lw_m3 226 rfl
theorem q835 : (Jvm.Cond.methodLink "StoneYear$Reader" (132 : Nat) ({ cls := "StoneYear$Reader", name := "must", desc := "()V" } : Jvm.MethodName)) ∈ lw_all := lw_g (lw_at lw_m3 227 rfl) rfl
theorem q836 : (Jvm.Cond.privateMethod ({ cls := "StoneYear$Reader", name := "must", desc := "()V" } : Jvm.MethodName)) ∈ lw_tbl := lw_at lw_m3 228 rfl
theorem q837 : (Jvm.Cond.instanceMethod ({ cls := "StoneYear$Reader", name := "must", desc := "()V" } : Jvm.MethodName)) ∈ lw_all := lw_g (lw_at lw_m3 229 rfl) rfl
theorem q838 : (Jvm.Cond.code ({ cls := "StoneYear$Reader", name := "must", desc := "()V" } : Jvm.MethodName) prog_11_method_20_code (4 : Nat) (Option.none : Option Jvm.ClassFile.FieldType)) ∈ lw_all := lw_g (lw_at lw_m3 230 rfl) rfl
theorem q839 : (Jvm.Cond.classLink "StoneYear$Reader" (218 : Nat) "StoneYear$Roof") ∈ lw_all := lw_g (lw_at lw_m3 231 rfl) rfl
theorem q841 : (Jvm.Cond.methodLink "StoneYear$Reader" (220 : Nat) ({ cls := "StoneYear$Roof", name := "<init>", desc := "(II)V" } : Jvm.MethodName)) ∈ lw_all := lw_g (lw_at lw_m3 233 rfl) rfl
theorem q861 : (Jvm.Cond.classLink "StoneYear$Reader" (223 : Nat) "StoneYear$Lane") ∈ lw_all := lw_g (lw_at lw_m4 13 rfl) rfl
theorem q863 : (Jvm.Cond.methodLink "StoneYear$Reader" (225 : Nat) ({ cls := "StoneYear$Lane", name := "<init>", desc := "(II)V" } : Jvm.MethodName)) ∈ lw_all := lw_g (lw_at lw_m4 15 rfl) rfl
theorem q870 : (Jvm.Cond.methodLink "StoneYear$Reader" (135 : Nat) ({ cls := "StoneYear$Reader", name := "more", desc := "()V" } : Jvm.MethodName)) ∈ lw_all := lw_g (lw_at lw_m4 22 rfl) rfl
theorem q871 : (Jvm.Cond.privateMethod ({ cls := "StoneYear$Reader", name := "more", desc := "()V" } : Jvm.MethodName)) ∈ lw_tbl := lw_at lw_m4 23 rfl
theorem q872 : (Jvm.Cond.instanceMethod ({ cls := "StoneYear$Reader", name := "more", desc := "()V" } : Jvm.MethodName)) ∈ lw_all := lw_g (lw_at lw_m4 24 rfl) rfl
theorem q873 : (Jvm.Cond.code ({ cls := "StoneYear$Reader", name := "more", desc := "()V" } : Jvm.MethodName) prog_11_method_16_code (1 : Nat) (Option.none : Option Jvm.ClassFile.FieldType)) ∈ lw_all := lw_g (lw_at lw_m4 25 rfl) rfl
theorem q874 : (Jvm.Cond.stringRef "StoneYear$Reader" (138 : Nat) "over") ∈ lw_tbl := lw_at lw_m4 26 rfl
theorem q875 : (Jvm.Cond.stringRef "StoneYear$Reader" (145 : Nat) "most") ∈ lw_tbl := lw_at lw_m4 27 rfl
theorem q876 : (Jvm.Cond.stringRef "StoneYear$Reader" (149 : Nat) "ring") ∈ lw_tbl := lw_at lw_m4 28 rfl
theorem q877 : (Jvm.Cond.stringRef "StoneYear$Reader" (155 : Nat) "flood") ∈ lw_tbl := lw_at lw_m4 29 rfl
theorem q878 : (Jvm.Cond.methodLink "StoneYear$Reader" (110 : Nat) ({ cls := "StoneYear$Reader", name := "over", desc := "()V" } : Jvm.MethodName)) ∈ lw_all := lw_g (lw_at lw_m4 30 rfl) rfl
theorem q879 : (Jvm.Cond.privateMethod ({ cls := "StoneYear$Reader", name := "over", desc := "()V" } : Jvm.MethodName)) ∈ lw_tbl := lw_at lw_m4 31 rfl
theorem q880 : (Jvm.Cond.instanceMethod ({ cls := "StoneYear$Reader", name := "over", desc := "()V" } : Jvm.MethodName)) ∈ lw_all := lw_g (lw_at lw_m4 32 rfl) rfl
theorem q881 : (Jvm.Cond.code ({ cls := "StoneYear$Reader", name := "over", desc := "()V" } : Jvm.MethodName) prog_11_method_12_code (1 : Nat) (Option.none : Option Jvm.ClassFile.FieldType)) ∈ lw_all := lw_g (lw_at lw_m4 33 rfl) rfl
theorem q883 : (Jvm.Cond.instanceMethod ({ cls := "StoneYear$Reader", name := "bars", desc := "()V" } : Jvm.MethodName)) ∈ lw_all := lw_g (lw_at lw_m4 35 rfl) rfl
theorem q884 : (Jvm.Cond.selects "StoneYear$Reader" ({ cls := "StoneYear$Reader", name := "bars", desc := "()V" } : Jvm.MethodName) ({ cls := "StoneYear$Reader", name := "bars", desc := "()V" } : Jvm.MethodName)) ∈ lw_all := lw_g (lw_at lw_m4 36 rfl) rfl
theorem q885 : (Jvm.Cond.code ({ cls := "StoneYear$Reader", name := "bars", desc := "()V" } : Jvm.MethodName) prog_11_method_21_code (2 : Nat) (Option.none : Option Jvm.ClassFile.FieldType)) ∈ lw_all := lw_g (lw_at lw_m4 37 rfl) rfl
theorem q886 : (Jvm.Cond.stringRef "StoneYear$Reader" (226 : Nat) "bar") ∈ lw_tbl := lw_at lw_m4 38 rfl
theorem q887 : (Jvm.Cond.stringRef "StoneYear$Reader" (228 : Nat) "if") ∈ lw_tbl := lw_at lw_m4 39 rfl
theorem q888 : (Jvm.Cond.methodLink "StoneYear$Reader" (230 : Nat) ({ cls := "StoneYear$Reader", name := "some", desc := "()LStoneYear$Fact;" } : Jvm.MethodName)) ∈ lw_all := lw_g (lw_at lw_m4 40 rfl) rfl
theorem q889 : (Jvm.Cond.privateMethod ({ cls := "StoneYear$Reader", name := "some", desc := "()LStoneYear$Fact;" } : Jvm.MethodName)) ∈ lw_tbl := lw_at lw_m4 41 rfl
theorem q890 : (Jvm.Cond.instanceMethod ({ cls := "StoneYear$Reader", name := "some", desc := "()LStoneYear$Fact;" } : Jvm.MethodName)) ∈ lw_all := lw_g (lw_at lw_m4 42 rfl) rfl
theorem q891 : (Jvm.Cond.code ({ cls := "StoneYear$Reader", name := "some", desc := "()LStoneYear$Fact;" } : Jvm.MethodName) prog_11_method_22_code (2 : Nat) (Option.some (Jvm.ClassFile.FieldType.object "StoneYear$Fact"))) ∈ lw_all := lw_g (lw_at lw_m4 43 rfl) rfl
theorem q892 : (Jvm.Cond.methodLink "StoneYear$Reader" (234 : Nat) ({ cls := "StoneYear$Reader", name := "all", desc := "()LStoneYear$Fact;" } : Jvm.MethodName)) ∈ lw_all := lw_g (lw_at lw_m4 44 rfl) rfl
theorem q893 : (Jvm.Cond.privateMethod ({ cls := "StoneYear$Reader", name := "all", desc := "()LStoneYear$Fact;" } : Jvm.MethodName)) ∈ lw_tbl := lw_at lw_m4 45 rfl
theorem q894 : (Jvm.Cond.instanceMethod ({ cls := "StoneYear$Reader", name := "all", desc := "()LStoneYear$Fact;" } : Jvm.MethodName)) ∈ lw_all := lw_g (lw_at lw_m4 46 rfl) rfl
theorem q895 : (Jvm.Cond.code ({ cls := "StoneYear$Reader", name := "all", desc := "()LStoneYear$Fact;" } : Jvm.MethodName) prog_11_method_23_code (2 : Nat) (Option.some (Jvm.ClassFile.FieldType.object "StoneYear$Fact"))) ∈ lw_all := lw_g (lw_at lw_m4 47 rfl) rfl
theorem q896 : (Jvm.Cond.methodLink "StoneYear$Reader" (244 : Nat) ({ cls := "StoneYear$Reader", name := "fact", desc := "()LStoneYear$Fact;" } : Jvm.MethodName)) ∈ lw_all := lw_g (lw_at lw_m4 48 rfl) rfl
theorem q897 : (Jvm.Cond.privateMethod ({ cls := "StoneYear$Reader", name := "fact", desc := "()LStoneYear$Fact;" } : Jvm.MethodName)) ∈ lw_tbl := lw_at lw_m4 49 rfl
theorem q898 : (Jvm.Cond.instanceMethod ({ cls := "StoneYear$Reader", name := "fact", desc := "()LStoneYear$Fact;" } : Jvm.MethodName)) ∈ lw_all := lw_g (lw_at lw_m4 50 rfl) rfl
theorem q899 : (Jvm.Cond.code ({ cls := "StoneYear$Reader", name := "fact", desc := "()LStoneYear$Fact;" } : Jvm.MethodName) prog_11_method_25_code (2 : Nat) (Option.some (Jvm.ClassFile.FieldType.object "StoneYear$Fact"))) ∈ lw_all := lw_g (lw_at lw_m4 51 rfl) rfl
theorem q900 : (Jvm.Cond.stringRef "StoneYear$Reader" (252 : Nat) "not") ∈ lw_tbl := lw_at lw_m4 52 rfl
theorem q901 : (Jvm.Cond.methodLink "StoneYear$Reader" (254 : Nat) ({ cls := "StoneYear$Reader", name := "opens", desc := "()V" } : Jvm.MethodName)) ∈ lw_all := lw_g (lw_at lw_m4 53 rfl) rfl
theorem q902 : (Jvm.Cond.privateMethod ({ cls := "StoneYear$Reader", name := "opens", desc := "()V" } : Jvm.MethodName)) ∈ lw_tbl := lw_at lw_m4 54 rfl
theorem q903 : (Jvm.Cond.instanceMethod ({ cls := "StoneYear$Reader", name := "opens", desc := "()V" } : Jvm.MethodName)) ∈ lw_all := lw_g (lw_at lw_m4 55 rfl) rfl
theorem q904 : (Jvm.Cond.code ({ cls := "StoneYear$Reader", name := "opens", desc := "()V" } : Jvm.MethodName) prog_11_method_24_code (1 : Nat) (Option.none : Option Jvm.ClassFile.FieldType)) ∈ lw_all := lw_g (lw_at lw_m4 56 rfl) rfl
theorem q905 : (Jvm.Cond.classLink "StoneYear$Reader" (257 : Nat) "StoneYear$Not") ∈ lw_all := lw_g (lw_at lw_m4 57 rfl) rfl
theorem q907 : (Jvm.Cond.methodLink "StoneYear$Reader" (259 : Nat) ({ cls := "StoneYear$Not", name := "<init>", desc := "(LStoneYear$Fact;)V" } : Jvm.MethodName)) ∈ lw_all := lw_g (lw_at lw_m4 59 rfl) rfl
theorem q918 : (Jvm.Cond.stringRef "StoneYear$Reader" (262 : Nat) "sort") ∈ lw_tbl := lw_at lw_m4 70 rfl
theorem q919 : (Jvm.Cond.stringRef "StoneYear$Reader" (264 : Nat) "from") ∈ lw_tbl := lw_at lw_m4 71 rfl
theorem q920 : (Jvm.Cond.stringRef "StoneYear$Reader" (266 : Nat) "to") ∈ lw_tbl := lw_at lw_m4 72 rfl
theorem q921 : (Jvm.Cond.stringRef "StoneYear$Reader" (268 : Nat) "high") ∈ lw_tbl := lw_at lw_m4 73 rfl
theorem q922 : (Jvm.Cond.stringRef "StoneYear$Reader" (269 : Nat) "full") ∈ lw_tbl := lw_at lw_m4 74 rfl
theorem q923 : (Jvm.Cond.classLink "StoneYear$Reader" (271 : Nat) "StoneYear$Asked") ∈ lw_all := lw_g (lw_at lw_m4 75 rfl) rfl
theorem q925 : (Jvm.Cond.methodLink "StoneYear$Reader" (273 : Nat) ({ cls := "StoneYear$Asked", name := "<init>", desc := "(II)V" } : Jvm.MethodName)) ∈ lw_all := lw_g (lw_at lw_m4 77 rfl) rfl
theorem q936 : (Jvm.Cond.stringRef "StoneYear$Reader" (247 : Nat) "and") ∈ lw_tbl := lw_at lw_m4 88 rfl
theorem q937 : (Jvm.Cond.classLink "StoneYear$Reader" (239 : Nat) "StoneYear$Both") ∈ lw_all := lw_g (lw_at lw_m4 89 rfl) rfl
theorem q939 : (Jvm.Cond.methodLink "StoneYear$Reader" (241 : Nat) ({ cls := "StoneYear$Both", name := "<init>", desc := "(ZLStoneYear$Fact;LStoneYear$Fact;)V" } : Jvm.MethodName)) ∈ lw_all := lw_g (lw_at lw_m4 91 rfl) rfl
theorem q953 : (Jvm.Cond.stringRef "StoneYear$Reader" (237 : Nat) "or") ∈ lw_tbl := lw_at lw_m4 105 rfl
theorem q2244 : (Jvm.Cond.castable "StoneYear$Reader" "java/lang/Object") ∈ lw_tbl := lw_at lw_m9 196 rfl
theorem in_X9 : ∀ w ∈ wsX90, w ∈ lw_all := lw_in wsX90 [555, 557, 559, 561, 563, 565, 567, 569, 571, 573, 575] (by decide +kernel) (by decide +kernel)
/-! StoneYear$Row -/
set_option maxRecDepth 100000
def RX10 : String := "StoneYear$Row"
def TX10 : u_T := fun k => match k with
  | 0 => ("StoneYear$Row", "high", "I", true)
  | 1 => ("StoneYear$Row", "wish", "[I", true)
  | 2 => ("StoneYear$Row", "wished", "I", false)
  | 3 => ("StoneYear$Row", "whose", "I", false)
  | _ => ("StoneYear$Row", "lay", "I", false)
def tyX10 : Nat → FieldType := fun k => match k with
  | 0 => .int
  | 1 => .array .int
  | 2 => .int
  | 3 => .int
  | _ => .int
abbrev wsX100 : List Cond := u_ws RX10 TX10 5
theorem nmX10 : ∀ a, a < 5 → ∀ b, b < 5 → a ≠ b → (TX10 a).2.1 ≠ (TX10 b).2.1 := by decide +kernel
theorem tyX10_ok : ∀ k, k < 5 → parseFieldDescriptor (TX10 k).2.2.1 = some (tyX10 k) := by decide +kernel
abbrev cX10_init : ByteArray := prog_13_method_1_code
def yX10_init : MethodName := ⟨RX10, "<init>", "(I)V"⟩
def dkwX10_init_1 : List UInt8 := [2, 181, 0, 15, 42, 2, 181, 0, 19, 42, 27, 181, 0, 22, 177]
abbrev dktX10_init_1 : List UInt8 := dkwX10_init_1 ++ []
def dkwX10_init_0 : List UInt8 := [42, 183, 0, 3, 42, 6, 188, 10, 89, 3, 2, 79, 89, 4, 2, 79, 89, 5, 2, 79, 181, 0, 9, 42]
abbrev dktX10_init_0 : List UInt8 := dkwX10_init_0 ++ dktX10_init_1
theorem dksX10_init_0 : cX10_init.data.toList.drop 0 = dktX10_init_0 := by decide +kernel
theorem dksX10_init_1 : cX10_init.data.toList.drop 24 = dktX10_init_1 := dk_seg dksX10_init_0 24 rfl rfl
theorem dX10_init_0 : decode cX10_init 0 = .ok (.aload_n 0, 1) := dk_42 (dk_at dksX10_init_0 0 rfl rfl)
theorem dX10_init_1 : decode cX10_init 1 = .ok (.invokespecial 3, 3) := dk_183 0 3 (dk_at dksX10_init_0 1 rfl rfl)
theorem dX10_init_4 : decode cX10_init 4 = .ok (.aload_n 0, 1) := dk_42 (dk_at dksX10_init_0 4 rfl rfl)
theorem dX10_init_5 : decode cX10_init 5 = .ok (.iconst 3, 1) := dk_6 (dk_at dksX10_init_0 5 rfl rfl)
theorem dX10_init_6 : decode cX10_init 6 = .ok (.newarray .int, 2) := dk_188_10 (dk_at dksX10_init_0 6 rfl rfl)
theorem dX10_init_8 : decode cX10_init 8 = .ok (.dup, 1) := dk_89 (dk_at dksX10_init_0 8 rfl rfl)
theorem dX10_init_9 : decode cX10_init 9 = .ok (.iconst 0, 1) := dk_3 (dk_at dksX10_init_0 9 rfl rfl)
theorem dX10_init_10 : decode cX10_init 10 = .ok (.iconst (-1), 1) := dk_2 (dk_at dksX10_init_0 10 rfl rfl)
theorem dX10_init_11 : decode cX10_init 11 = .ok (.iastore, 1) := dk_79 (dk_at dksX10_init_0 11 rfl rfl)
theorem dX10_init_12 : decode cX10_init 12 = .ok (.dup, 1) := dk_89 (dk_at dksX10_init_0 12 rfl rfl)
theorem dX10_init_13 : decode cX10_init 13 = .ok (.iconst 1, 1) := dk_4 (dk_at dksX10_init_0 13 rfl rfl)
theorem dX10_init_14 : decode cX10_init 14 = .ok (.iconst (-1), 1) := dk_2 (dk_at dksX10_init_0 14 rfl rfl)
theorem dX10_init_15 : decode cX10_init 15 = .ok (.iastore, 1) := dk_79 (dk_at dksX10_init_0 15 rfl rfl)
theorem dX10_init_16 : decode cX10_init 16 = .ok (.dup, 1) := dk_89 (dk_at dksX10_init_0 16 rfl rfl)
theorem dX10_init_17 : decode cX10_init 17 = .ok (.iconst 2, 1) := dk_5 (dk_at dksX10_init_0 17 rfl rfl)
theorem dX10_init_18 : decode cX10_init 18 = .ok (.iconst (-1), 1) := dk_2 (dk_at dksX10_init_0 18 rfl rfl)
theorem dX10_init_19 : decode cX10_init 19 = .ok (.iastore, 1) := dk_79 (dk_at dksX10_init_0 19 rfl rfl)
theorem dX10_init_20 : decode cX10_init 20 = .ok (.putfield 9, 3) := dk_181 0 9 (dk_at dksX10_init_0 20 rfl rfl)
theorem dX10_init_23 : decode cX10_init 23 = .ok (.aload_n 0, 1) := dk_42 (dk_at dksX10_init_0 23 rfl rfl)
theorem dX10_init_24 : decode cX10_init 24 = .ok (.iconst (-1), 1) := dk_2 (dk_at dksX10_init_1 0 rfl rfl)
theorem dX10_init_25 : decode cX10_init 25 = .ok (.putfield 15, 3) := dk_181 0 15 (dk_at dksX10_init_1 1 rfl rfl)
theorem dX10_init_28 : decode cX10_init 28 = .ok (.aload_n 0, 1) := dk_42 (dk_at dksX10_init_1 4 rfl rfl)
theorem dX10_init_29 : decode cX10_init 29 = .ok (.iconst (-1), 1) := dk_2 (dk_at dksX10_init_1 5 rfl rfl)
theorem dX10_init_30 : decode cX10_init 30 = .ok (.putfield 19, 3) := dk_181 0 19 (dk_at dksX10_init_1 6 rfl rfl)
theorem dX10_init_33 : decode cX10_init 33 = .ok (.aload_n 0, 1) := dk_42 (dk_at dksX10_init_1 9 rfl rfl)
theorem dX10_init_34 : decode cX10_init 34 = .ok (.iload_n 1, 1) := dk_27 (dk_at dksX10_init_1 10 rfl rfl)
theorem dX10_init_35 : decode cX10_init 35 = .ok (.putfield 22, 3) := dk_181 0 22 (dk_at dksX10_init_1 11 rfl rfl)
theorem dX10_init_38 : decode cX10_init 38 = .ok (.return_, 1) := dk_177 (dk_at dksX10_init_1 14 rfl rfl)
abbrev cX10_isAsked : ByteArray := prog_13_method_2_code
def yX10_isAsked : MethodName := ⟨RX10, "isAsked", "(I)Z"⟩
def dkwX10_isAsked_1 : List UInt8 := [167, 0, 4, 3, 172]
abbrev dktX10_isAsked_1 : List UInt8 := dkwX10_isAsked_1 ++ []
def dkwX10_isAsked_0 : List UInt8 := [42, 180, 0, 15, 2, 159, 0, 20, 27, 2, 159, 0, 11, 42, 180, 0, 19, 27, 160, 0, 7, 4]
abbrev dktX10_isAsked_0 : List UInt8 := dkwX10_isAsked_0 ++ dktX10_isAsked_1
theorem dksX10_isAsked_0 : cX10_isAsked.data.toList.drop 0 = dktX10_isAsked_0 := by decide +kernel
theorem dksX10_isAsked_1 : cX10_isAsked.data.toList.drop 22 = dktX10_isAsked_1 := dk_seg dksX10_isAsked_0 22 rfl rfl
theorem dX10_isAsked_0 : decode cX10_isAsked 0 = .ok (.aload_n 0, 1) := dk_42 (dk_at dksX10_isAsked_0 0 rfl rfl)
theorem dX10_isAsked_1 : decode cX10_isAsked 1 = .ok (.getfield 15, 3) := dk_180 0 15 (dk_at dksX10_isAsked_0 1 rfl rfl)
theorem dX10_isAsked_4 : decode cX10_isAsked 4 = .ok (.iconst (-1), 1) := dk_2 (dk_at dksX10_isAsked_0 4 rfl rfl)
theorem dX10_isAsked_5 : decode cX10_isAsked 5 = .ok (.if_icmp .eq 20, 3) := dk_159 0 20 (dk_at dksX10_isAsked_0 5 rfl rfl)
theorem dX10_isAsked_8 : decode cX10_isAsked 8 = .ok (.iload_n 1, 1) := dk_27 (dk_at dksX10_isAsked_0 8 rfl rfl)
theorem dX10_isAsked_9 : decode cX10_isAsked 9 = .ok (.iconst (-1), 1) := dk_2 (dk_at dksX10_isAsked_0 9 rfl rfl)
theorem dX10_isAsked_10 : decode cX10_isAsked 10 = .ok (.if_icmp .eq 11, 3) := dk_159 0 11 (dk_at dksX10_isAsked_0 10 rfl rfl)
theorem dX10_isAsked_13 : decode cX10_isAsked 13 = .ok (.aload_n 0, 1) := dk_42 (dk_at dksX10_isAsked_0 13 rfl rfl)
theorem dX10_isAsked_14 : decode cX10_isAsked 14 = .ok (.getfield 19, 3) := dk_180 0 19 (dk_at dksX10_isAsked_0 14 rfl rfl)
theorem dX10_isAsked_17 : decode cX10_isAsked 17 = .ok (.iload_n 1, 1) := dk_27 (dk_at dksX10_isAsked_0 17 rfl rfl)
theorem dX10_isAsked_18 : decode cX10_isAsked 18 = .ok (.if_icmp .ne 7, 3) := dk_160 0 7 (dk_at dksX10_isAsked_0 18 rfl rfl)
theorem dX10_isAsked_21 : decode cX10_isAsked 21 = .ok (.iconst 1, 1) := dk_4 (dk_at dksX10_isAsked_0 21 rfl rfl)
theorem dX10_isAsked_22 : decode cX10_isAsked 22 = .ok (.goto 4, 3) := dk_167 0 4 (dk_at dksX10_isAsked_1 0 rfl rfl)
theorem dX10_isAsked_25 : decode cX10_isAsked 25 = .ok (.iconst 0, 1) := dk_3 (dk_at dksX10_isAsked_1 3 rfl rfl)
theorem dX10_isAsked_26 : decode cX10_isAsked 26 = .ok (.ireturn, 1) := dk_172 (dk_at dksX10_isAsked_1 4 rfl rfl)
abbrev cX10_copy : ByteArray := prog_13_method_3_code
def yX10_copy : MethodName := ⟨RX10, "copy", "()LStoneYear$Row;"⟩
def dkwX10_copy_2 : List UInt8 := [79, 132, 2, 1, 167, 255, 236, 43, 176]
abbrev dktX10_copy_2 : List UInt8 := dkwX10_copy_2 ++ []
def dkwX10_copy_1 : List UInt8 := [180, 0, 19, 181, 0, 19, 3, 61, 28, 6, 162, 0, 21, 43, 180, 0, 9, 28, 42, 180, 0, 9, 28, 46]
abbrev dktX10_copy_1 : List UInt8 := dkwX10_copy_1 ++ dktX10_copy_2
def dkwX10_copy_0 : List UInt8 := [187, 0, 10, 89, 42, 180, 0, 22, 183, 0, 25, 76, 43, 42, 180, 0, 15, 181, 0, 15, 43, 42]
abbrev dktX10_copy_0 : List UInt8 := dkwX10_copy_0 ++ dktX10_copy_1
theorem dksX10_copy_0 : cX10_copy.data.toList.drop 0 = dktX10_copy_0 := by decide +kernel
theorem dksX10_copy_1 : cX10_copy.data.toList.drop 22 = dktX10_copy_1 := dk_seg dksX10_copy_0 22 rfl rfl
theorem dksX10_copy_2 : cX10_copy.data.toList.drop 46 = dktX10_copy_2 := dk_seg dksX10_copy_1 24 rfl rfl
theorem dX10_copy_0 : decode cX10_copy 0 = .ok (.new 10, 3) := dk_187 0 10 (dk_at dksX10_copy_0 0 rfl rfl)
theorem dX10_copy_3 : decode cX10_copy 3 = .ok (.dup, 1) := dk_89 (dk_at dksX10_copy_0 3 rfl rfl)
theorem dX10_copy_4 : decode cX10_copy 4 = .ok (.aload_n 0, 1) := dk_42 (dk_at dksX10_copy_0 4 rfl rfl)
theorem dX10_copy_5 : decode cX10_copy 5 = .ok (.getfield 22, 3) := dk_180 0 22 (dk_at dksX10_copy_0 5 rfl rfl)
theorem dX10_copy_8 : decode cX10_copy 8 = .ok (.invokespecial 25, 3) := dk_183 0 25 (dk_at dksX10_copy_0 8 rfl rfl)
theorem dX10_copy_11 : decode cX10_copy 11 = .ok (.astore_n 1, 1) := dk_76 (dk_at dksX10_copy_0 11 rfl rfl)
theorem dX10_copy_12 : decode cX10_copy 12 = .ok (.aload_n 1, 1) := dk_43 (dk_at dksX10_copy_0 12 rfl rfl)
theorem dX10_copy_13 : decode cX10_copy 13 = .ok (.aload_n 0, 1) := dk_42 (dk_at dksX10_copy_0 13 rfl rfl)
theorem dX10_copy_14 : decode cX10_copy 14 = .ok (.getfield 15, 3) := dk_180 0 15 (dk_at dksX10_copy_0 14 rfl rfl)
theorem dX10_copy_17 : decode cX10_copy 17 = .ok (.putfield 15, 3) := dk_181 0 15 (dk_at dksX10_copy_0 17 rfl rfl)
theorem dX10_copy_20 : decode cX10_copy 20 = .ok (.aload_n 1, 1) := dk_43 (dk_at dksX10_copy_0 20 rfl rfl)
theorem dX10_copy_21 : decode cX10_copy 21 = .ok (.aload_n 0, 1) := dk_42 (dk_at dksX10_copy_0 21 rfl rfl)
theorem dX10_copy_22 : decode cX10_copy 22 = .ok (.getfield 19, 3) := dk_180 0 19 (dk_at dksX10_copy_1 0 rfl rfl)
theorem dX10_copy_25 : decode cX10_copy 25 = .ok (.putfield 19, 3) := dk_181 0 19 (dk_at dksX10_copy_1 3 rfl rfl)
theorem dX10_copy_28 : decode cX10_copy 28 = .ok (.iconst 0, 1) := dk_3 (dk_at dksX10_copy_1 6 rfl rfl)
theorem dX10_copy_29 : decode cX10_copy 29 = .ok (.istore_n 2, 1) := dk_61 (dk_at dksX10_copy_1 7 rfl rfl)
theorem dX10_copy_30 : decode cX10_copy 30 = .ok (.iload_n 2, 1) := dk_28 (dk_at dksX10_copy_1 8 rfl rfl)
theorem dX10_copy_31 : decode cX10_copy 31 = .ok (.iconst 3, 1) := dk_6 (dk_at dksX10_copy_1 9 rfl rfl)
theorem dX10_copy_32 : decode cX10_copy 32 = .ok (.if_icmp .ge 21, 3) := dk_162 0 21 (dk_at dksX10_copy_1 10 rfl rfl)
theorem dX10_copy_35 : decode cX10_copy 35 = .ok (.aload_n 1, 1) := dk_43 (dk_at dksX10_copy_1 13 rfl rfl)
theorem dX10_copy_36 : decode cX10_copy 36 = .ok (.getfield 9, 3) := dk_180 0 9 (dk_at dksX10_copy_1 14 rfl rfl)
theorem dX10_copy_39 : decode cX10_copy 39 = .ok (.iload_n 2, 1) := dk_28 (dk_at dksX10_copy_1 17 rfl rfl)
theorem dX10_copy_40 : decode cX10_copy 40 = .ok (.aload_n 0, 1) := dk_42 (dk_at dksX10_copy_1 18 rfl rfl)
theorem dX10_copy_41 : decode cX10_copy 41 = .ok (.getfield 9, 3) := dk_180 0 9 (dk_at dksX10_copy_1 19 rfl rfl)
theorem dX10_copy_44 : decode cX10_copy 44 = .ok (.iload_n 2, 1) := dk_28 (dk_at dksX10_copy_1 22 rfl rfl)
theorem dX10_copy_45 : decode cX10_copy 45 = .ok (.iaload, 1) := dk_46 (dk_at dksX10_copy_1 23 rfl rfl)
theorem dX10_copy_46 : decode cX10_copy 46 = .ok (.iastore, 1) := dk_79 (dk_at dksX10_copy_2 0 rfl rfl)
theorem dX10_copy_47 : decode cX10_copy 47 = .ok (.iinc 2 1, 3) := dk_132 2 1 (dk_at dksX10_copy_2 1 rfl rfl)
theorem dX10_copy_50 : decode cX10_copy 50 = .ok (.goto (-20), 3) := dk_167 255 236 (dk_at dksX10_copy_2 4 rfl rfl)
theorem dX10_copy_53 : decode cX10_copy 53 = .ok (.aload_n 1, 1) := dk_43 (dk_at dksX10_copy_2 7 rfl rfl)
theorem dX10_copy_54 : decode cX10_copy 54 = .ok (.areturn, 1) := dk_176 (dk_at dksX10_copy_2 8 rfl rfl)
theorem q147 : (Jvm.Cond.initialized "StoneYear$Row") ∈ lw_all := lw_g (lw_at lw_m1 19 rfl) rfl
theorem q680 : (Jvm.Cond.instantiable "StoneYear$Row" (5 : Nat)) ∈ lw_all := lw_g (lw_at lw_m3 72 rfl) rfl
theorem q682 : (Jvm.Cond.instanceMethod ({ cls := "StoneYear$Row", name := "<init>", desc := "(I)V" } : Jvm.MethodName)) ∈ lw_all := lw_g (lw_at lw_m3 74 rfl) rfl
theorem q683 : (Jvm.Cond.code ({ cls := "StoneYear$Row", name := "<init>", desc := "(I)V" } : Jvm.MethodName) prog_13_method_1_code (2 : Nat) (Option.none : Option Jvm.ClassFile.FieldType)) ∈ lw_all := lw_g (lw_at lw_m3 75 rfl) rfl
theorem q684 : (Jvm.Cond.methodLink "StoneYear$Row" (3 : Nat) ({ cls := "java/lang/Object", name := "<init>", desc := "()V" } : Jvm.MethodName)) ∈ lw_all := lw_g (lw_at lw_m3 76 rfl) rfl
theorem q685 : (Jvm.Cond.fieldLink "StoneYear$Row" (22 : Nat) "StoneYear$Row" "high" "I") ∈ lw_all := lw_g (lw_at lw_m3 77 rfl) rfl
theorem q689 : (Jvm.Cond.fieldLink "StoneYear$Row" (9 : Nat) "StoneYear$Row" "wish" "[I") ∈ lw_all := lw_g (lw_at lw_m3 81 rfl) rfl
theorem q694 : (Jvm.Cond.fieldLink "StoneYear$Row" (15 : Nat) "StoneYear$Row" "wished" "I") ∈ lw_all := lw_g (lw_at lw_m3 86 rfl) rfl
theorem q699 : (Jvm.Cond.fieldLink "StoneYear$Row" (19 : Nat) "StoneYear$Row" "whose" "I") ∈ lw_all := lw_g (lw_at lw_m3 91 rfl) rfl
theorem q703 : (Jvm.Cond.laysFinal "StoneYear$Row" "StoneYear$Row" "high" "I") ∈ lw_all := lw_g (lw_at lw_m3 95 rfl) rfl
theorem q704 : (Jvm.Cond.soleField "StoneYear$Row" "high") ∈ lw_all := lw_g (lw_at lw_m3 96 rfl) rfl
theorem q705 : (Jvm.Cond.laysFinal "StoneYear$Row" "StoneYear$Row" "wish" "[I") ∈ lw_all := lw_g (lw_at lw_m3 97 rfl) rfl
theorem q706 : (Jvm.Cond.soleField "StoneYear$Row" "wish") ∈ lw_all := lw_g (lw_at lw_m3 98 rfl) rfl
theorem q707 : (Jvm.Cond.lays "StoneYear$Row" "StoneYear$Row" "wished" "I") ∈ lw_all := lw_g (lw_at lw_m3 99 rfl) rfl
theorem q708 : (Jvm.Cond.soleField "StoneYear$Row" "wished") ∈ lw_all := lw_g (lw_at lw_m3 100 rfl) rfl
theorem q709 : (Jvm.Cond.lays "StoneYear$Row" "StoneYear$Row" "whose" "I") ∈ lw_all := lw_g (lw_at lw_m3 101 rfl) rfl
theorem q710 : (Jvm.Cond.soleField "StoneYear$Row" "whose") ∈ lw_all := lw_g (lw_at lw_m3 102 rfl) rfl
theorem q711 : (Jvm.Cond.lays "StoneYear$Row" "StoneYear$Row" "lay" "I") ∈ lw_all := lw_g (lw_at lw_m3 103 rfl) rfl
theorem q712 : (Jvm.Cond.soleField "StoneYear$Row" "lay") ∈ lw_all := lw_g (lw_at lw_m3 104 rfl) rfl
theorem q713 : (Jvm.Cond.superclass "StoneYear$Row" "java/lang/Object") ∈ lw_all := lw_g (lw_at lw_m3 105 rfl) rfl
theorem q758 : (Jvm.Cond.selects "StoneYear$Row" ({ cls := "java/lang/Object", name := "getClass", desc := "()Ljava/lang/Class;" } : Jvm.MethodName) ({ cls := "java/lang/Object", name := "getClass", desc := "()Ljava/lang/Class;" } : Jvm.MethodName)) ∈ lw_all := lw_g (lw_at lw_m3 150 rfl) rfl
theorem q1167 : (Jvm.Cond.instanceMethod ({ cls := "StoneYear$Row", name := "isAsked", desc := "(I)Z" } : Jvm.MethodName)) ∈ lw_all := lw_g (lw_at lw_m5 79 rfl) rfl
theorem q1168 : (Jvm.Cond.selects "StoneYear$Row" ({ cls := "StoneYear$Row", name := "isAsked", desc := "(I)Z" } : Jvm.MethodName) ({ cls := "StoneYear$Row", name := "isAsked", desc := "(I)Z" } : Jvm.MethodName)) ∈ lw_all := lw_g (lw_at lw_m5 80 rfl) rfl
theorem q1169 : (Jvm.Cond.code ({ cls := "StoneYear$Row", name := "isAsked", desc := "(I)Z" } : Jvm.MethodName) prog_13_method_2_code (2 : Nat) (Option.some Jvm.ClassFile.FieldType.boolean)) ∈ lw_all := lw_g (lw_at lw_m5 81 rfl) rfl
theorem q1412 : (Jvm.Cond.instanceMethod ({ cls := "StoneYear$Row", name := "copy", desc := "()LStoneYear$Row;" } : Jvm.MethodName)) ∈ lw_all := lw_g (lw_at lw_m6 84 rfl) rfl
theorem q1413 : (Jvm.Cond.selects "StoneYear$Row" ({ cls := "StoneYear$Row", name := "copy", desc := "()LStoneYear$Row;" } : Jvm.MethodName) ({ cls := "StoneYear$Row", name := "copy", desc := "()LStoneYear$Row;" } : Jvm.MethodName)) ∈ lw_all := lw_g (lw_at lw_m6 85 rfl) rfl
theorem q1414 : (Jvm.Cond.code ({ cls := "StoneYear$Row", name := "copy", desc := "()LStoneYear$Row;" } : Jvm.MethodName) prog_13_method_3_code (3 : Nat) (Option.some (Jvm.ClassFile.FieldType.object "StoneYear$Row"))) ∈ lw_all := lw_g (lw_at lw_m6 86 rfl) rfl
theorem q1415 : (Jvm.Cond.classLink "StoneYear$Row" (10 : Nat) "StoneYear$Row") ∈ lw_all := lw_g (lw_at lw_m6 87 rfl) rfl
theorem q1416 : (Jvm.Cond.methodLink "StoneYear$Row" (25 : Nat) ({ cls := "StoneYear$Row", name := "<init>", desc := "(I)V" } : Jvm.MethodName)) ∈ lw_all := lw_g (lw_at lw_m6 88 rfl) rfl
theorem q2245 : (Jvm.Cond.castable "StoneYear$Row" "java/lang/Object") ∈ lw_tbl := lw_at lw_m9 197 rfl
theorem in_X10 : ∀ w ∈ wsX100, w ∈ lw_all := lw_in wsX100 [703, 705, 707, 709, 711] (by decide +kernel) (by decide +kernel)
/-! StoneYear$Stone -/
set_option maxRecDepth 100000
def RX11 : String := "StoneYear$Stone"
def TX11 : u_T := fun k => match k with
  | 0 => ("StoneYear$Stone", "sort", "I", true)
  | 1 => ("StoneYear$Stone", "size", "I", true)
  | 2 => ("StoneYear$Stone", "row", "I", true)
  | _ => ("StoneYear$Stone", "bears", "I", true)
def tyX11 : Nat → FieldType := fun k => match k with
  | 0 => .int
  | 1 => .int
  | 2 => .int
  | _ => .int
abbrev wsX110 : List Cond := u_ws RX11 TX11 4
theorem nmX11 : ∀ a, a < 4 → ∀ b, b < 4 → a ≠ b → (TX11 a).2.1 ≠ (TX11 b).2.1 := by decide +kernel
theorem tyX11_ok : ∀ k, k < 4 → parseFieldDescriptor (TX11 k).2.2.1 = some (tyX11 k) := by decide +kernel
abbrev cX11_init : ByteArray := prog_16_method_1_code
def yX11_init : MethodName := ⟨RX11, "<init>", "(IIII)V"⟩
def dkwX11_init_1 : List UInt8 := [181, 0, 19, 177]
abbrev dktX11_init_1 : List UInt8 := dkwX11_init_1 ++ []
def dkwX11_init_0 : List UInt8 := [42, 183, 0, 1, 42, 27, 181, 0, 7, 42, 28, 181, 0, 13, 42, 29, 181, 0, 16, 42, 21, 4]
abbrev dktX11_init_0 : List UInt8 := dkwX11_init_0 ++ dktX11_init_1
theorem dksX11_init_0 : cX11_init.data.toList.drop 0 = dktX11_init_0 := by decide +kernel
theorem dksX11_init_1 : cX11_init.data.toList.drop 22 = dktX11_init_1 := dk_seg dksX11_init_0 22 rfl rfl
theorem dX11_init_0 : decode cX11_init 0 = .ok (.aload_n 0, 1) := dk_42 (dk_at dksX11_init_0 0 rfl rfl)
theorem dX11_init_1 : decode cX11_init 1 = .ok (.invokespecial 1, 3) := dk_183 0 1 (dk_at dksX11_init_0 1 rfl rfl)
theorem dX11_init_4 : decode cX11_init 4 = .ok (.aload_n 0, 1) := dk_42 (dk_at dksX11_init_0 4 rfl rfl)
theorem dX11_init_5 : decode cX11_init 5 = .ok (.iload_n 1, 1) := dk_27 (dk_at dksX11_init_0 5 rfl rfl)
theorem dX11_init_6 : decode cX11_init 6 = .ok (.putfield 7, 3) := dk_181 0 7 (dk_at dksX11_init_0 6 rfl rfl)
theorem dX11_init_9 : decode cX11_init 9 = .ok (.aload_n 0, 1) := dk_42 (dk_at dksX11_init_0 9 rfl rfl)
theorem dX11_init_10 : decode cX11_init 10 = .ok (.iload_n 2, 1) := dk_28 (dk_at dksX11_init_0 10 rfl rfl)
theorem dX11_init_11 : decode cX11_init 11 = .ok (.putfield 13, 3) := dk_181 0 13 (dk_at dksX11_init_0 11 rfl rfl)
theorem dX11_init_14 : decode cX11_init 14 = .ok (.aload_n 0, 1) := dk_42 (dk_at dksX11_init_0 14 rfl rfl)
theorem dX11_init_15 : decode cX11_init 15 = .ok (.iload_n 3, 1) := dk_29 (dk_at dksX11_init_0 15 rfl rfl)
theorem dX11_init_16 : decode cX11_init 16 = .ok (.putfield 16, 3) := dk_181 0 16 (dk_at dksX11_init_0 16 rfl rfl)
theorem dX11_init_19 : decode cX11_init 19 = .ok (.aload_n 0, 1) := dk_42 (dk_at dksX11_init_0 19 rfl rfl)
theorem dX11_init_20 : decode cX11_init 20 = .ok (.iload 4, 2) := dk_21 4 (dk_at dksX11_init_0 20 rfl rfl)
theorem dX11_init_22 : decode cX11_init 22 = .ok (.putfield 19, 3) := dk_181 0 19 (dk_at dksX11_init_1 0 rfl rfl)
theorem dX11_init_25 : decode cX11_init 25 = .ok (.return_, 1) := dk_177 (dk_at dksX11_init_1 3 rfl rfl)
theorem q152 : (Jvm.Cond.initialized "StoneYear$Stone") ∈ lw_all := lw_g (lw_at lw_m1 24 rfl) rfl
theorem q761 : (Jvm.Cond.selects "StoneYear$Stone" ({ cls := "java/lang/Object", name := "getClass", desc := "()Ljava/lang/Class;" } : Jvm.MethodName) ({ cls := "java/lang/Object", name := "getClass", desc := "()Ljava/lang/Class;" } : Jvm.MethodName)) ∈ lw_all := lw_g (lw_at lw_m3 153 rfl) rfl
theorem q800 : (Jvm.Cond.instantiable "StoneYear$Stone" (4 : Nat)) ∈ lw_all := lw_g (lw_at lw_m3 192 rfl) rfl
theorem q802 : (Jvm.Cond.instanceMethod ({ cls := "StoneYear$Stone", name := "<init>", desc := "(IIII)V" } : Jvm.MethodName)) ∈ lw_all := lw_g (lw_at lw_m3 194 rfl) rfl
theorem q803 : (Jvm.Cond.code ({ cls := "StoneYear$Stone", name := "<init>", desc := "(IIII)V" } : Jvm.MethodName) prog_16_method_1_code (5 : Nat) (Option.none : Option Jvm.ClassFile.FieldType)) ∈ lw_all := lw_g (lw_at lw_m3 195 rfl) rfl
theorem q804 : (Jvm.Cond.methodLink "StoneYear$Stone" (1 : Nat) ({ cls := "java/lang/Object", name := "<init>", desc := "()V" } : Jvm.MethodName)) ∈ lw_all := lw_g (lw_at lw_m3 196 rfl) rfl
theorem q805 : (Jvm.Cond.fieldLink "StoneYear$Stone" (7 : Nat) "StoneYear$Stone" "sort" "I") ∈ lw_all := lw_g (lw_at lw_m3 197 rfl) rfl
theorem q809 : (Jvm.Cond.fieldLink "StoneYear$Stone" (13 : Nat) "StoneYear$Stone" "size" "I") ∈ lw_all := lw_g (lw_at lw_m3 201 rfl) rfl
theorem q812 : (Jvm.Cond.fieldLink "StoneYear$Stone" (16 : Nat) "StoneYear$Stone" "row" "I") ∈ lw_all := lw_g (lw_at lw_m3 204 rfl) rfl
theorem q814 : (Jvm.Cond.fieldLink "StoneYear$Stone" (19 : Nat) "StoneYear$Stone" "bears" "I") ∈ lw_all := lw_g (lw_at lw_m3 206 rfl) rfl
theorem q817 : (Jvm.Cond.laysFinal "StoneYear$Stone" "StoneYear$Stone" "sort" "I") ∈ lw_all := lw_g (lw_at lw_m3 209 rfl) rfl
theorem q818 : (Jvm.Cond.soleField "StoneYear$Stone" "sort") ∈ lw_all := lw_g (lw_at lw_m3 210 rfl) rfl
theorem q819 : (Jvm.Cond.laysFinal "StoneYear$Stone" "StoneYear$Stone" "size" "I") ∈ lw_all := lw_g (lw_at lw_m3 211 rfl) rfl
theorem q820 : (Jvm.Cond.soleField "StoneYear$Stone" "size") ∈ lw_all := lw_g (lw_at lw_m3 212 rfl) rfl
theorem q821 : (Jvm.Cond.laysFinal "StoneYear$Stone" "StoneYear$Stone" "row" "I") ∈ lw_all := lw_g (lw_at lw_m3 213 rfl) rfl
theorem q822 : (Jvm.Cond.soleField "StoneYear$Stone" "row") ∈ lw_all := lw_g (lw_at lw_m3 214 rfl) rfl
theorem q823 : (Jvm.Cond.laysFinal "StoneYear$Stone" "StoneYear$Stone" "bears" "I") ∈ lw_all := lw_g (lw_at lw_m3 215 rfl) rfl
theorem q824 : (Jvm.Cond.soleField "StoneYear$Stone" "bears") ∈ lw_all := lw_g (lw_at lw_m3 216 rfl) rfl
theorem q825 : (Jvm.Cond.superclass "StoneYear$Stone" "java/lang/Object") ∈ lw_all := lw_g (lw_at lw_m3 217 rfl) rfl
theorem q2246 : (Jvm.Cond.castable "StoneYear$Stone" "java/lang/Object") ∈ lw_tbl := lw_at lw_m9 198 rfl
theorem in_X11 : ∀ w ∈ wsX110, w ∈ lw_all := lw_in wsX110 [817, 819, 821, 823] (by decide +kernel) (by decide +kernel)
/-! StoneYear$Must -/
set_option maxRecDepth 100000
def RX12 : String := "StoneYear$Must"
abbrev cX12_init : ByteArray := prog_8_method_1_code
def yX12_init : MethodName := ⟨RX12, "<init>", "(II)V"⟩
def dkwX12_init_0 : List UInt8 := [42, 183, 0, 1, 42, 27, 181, 0, 7, 42, 28, 181, 0, 13, 177]
abbrev dktX12_init_0 : List UInt8 := dkwX12_init_0 ++ []
theorem dksX12_init_0 : cX12_init.data.toList.drop 0 = dktX12_init_0 := by decide +kernel
theorem dX12_init_0 : decode cX12_init 0 = .ok (.aload_n 0, 1) := dk_42 (dk_at dksX12_init_0 0 rfl rfl)
theorem dX12_init_1 : decode cX12_init 1 = .ok (.invokespecial 1, 3) := dk_183 0 1 (dk_at dksX12_init_0 1 rfl rfl)
theorem dX12_init_4 : decode cX12_init 4 = .ok (.aload_n 0, 1) := dk_42 (dk_at dksX12_init_0 4 rfl rfl)
theorem dX12_init_5 : decode cX12_init 5 = .ok (.iload_n 1, 1) := dk_27 (dk_at dksX12_init_0 5 rfl rfl)
theorem dX12_init_6 : decode cX12_init 6 = .ok (.putfield 7, 3) := dk_181 0 7 (dk_at dksX12_init_0 6 rfl rfl)
theorem dX12_init_9 : decode cX12_init 9 = .ok (.aload_n 0, 1) := dk_42 (dk_at dksX12_init_0 9 rfl rfl)
theorem dX12_init_10 : decode cX12_init 10 = .ok (.iload_n 2, 1) := dk_28 (dk_at dksX12_init_0 10 rfl rfl)
theorem dX12_init_11 : decode cX12_init 11 = .ok (.putfield 13, 3) := dk_181 0 13 (dk_at dksX12_init_0 11 rfl rfl)
theorem dX12_init_14 : decode cX12_init 14 = .ok (.return_, 1) := dk_177 (dk_at dksX12_init_0 14 rfl rfl)
theorem q153 : (Jvm.Cond.initialized "StoneYear$Must") ∈ lw_all := lw_g (lw_at lw_m1 25 rfl) rfl
theorem q845 : (Jvm.Cond.instanceMethod ({ cls := "StoneYear$Must", name := "<init>", desc := "(II)V" } : Jvm.MethodName)) ∈ lw_all := lw_g (lw_at lw_m3 237 rfl) rfl
theorem q846 : (Jvm.Cond.code ({ cls := "StoneYear$Must", name := "<init>", desc := "(II)V" } : Jvm.MethodName) prog_8_method_1_code (3 : Nat) (Option.none : Option Jvm.ClassFile.FieldType)) ∈ lw_all := lw_g (lw_at lw_m3 238 rfl) rfl
theorem q847 : (Jvm.Cond.methodLink "StoneYear$Must" (1 : Nat) ({ cls := "java/lang/Object", name := "<init>", desc := "()V" } : Jvm.MethodName)) ∈ lw_all := lw_g (lw_at lw_m3 239 rfl) rfl
theorem q848 : (Jvm.Cond.fieldLink "StoneYear$Must" (7 : Nat) "StoneYear$Must" "row" "I") ∈ lw_all := lw_g (lw_at lw_m4 0 rfl) rfl
theorem q851 : (Jvm.Cond.fieldLink "StoneYear$Must" (13 : Nat) "StoneYear$Must" "many" "I") ∈ lw_all := lw_g (lw_at lw_m4 3 rfl) rfl
theorem q857 : (Jvm.Cond.soleField "StoneYear$Must" "row") ∈ lw_all := lw_g (lw_at lw_m4 9 rfl) rfl
theorem q859 : (Jvm.Cond.soleField "StoneYear$Must" "many") ∈ lw_all := lw_g (lw_at lw_m4 11 rfl) rfl
theorem q1013 : (Jvm.Cond.declares ({ cls := "StoneYear$Must", name := "isKept", desc := "(I)Z" } : Jvm.MethodName)) ∈ lw_tbl := lw_at lw_m4 165 rfl
theorem q1014 : (Jvm.Cond.sameMethod "StoneYear$Must" "StoneYear$Must" "isKept" "(I)Z") ∈ lw_all := lw_g (lw_at lw_m4 166 rfl) rfl
/-! StoneYear$Roof -/
set_option maxRecDepth 100000
def RX13 : String := "StoneYear$Roof"
def TX13 : u_T := fun k => match k with
  | 0 => ("StoneYear$Must", "row", "I", true)
  | _ => ("StoneYear$Must", "many", "I", true)
def tyX13 : Nat → FieldType := fun k => match k with
  | 0 => .int
  | _ => .int
abbrev wsX130 : List Cond := u_ws RX13 TX13 2
theorem nmX13 : ∀ a, a < 2 → ∀ b, b < 2 → a ≠ b → (TX13 a).2.1 ≠ (TX13 b).2.1 := by decide +kernel
theorem tyX13_ok : ∀ k, k < 2 → parseFieldDescriptor (TX13 k).2.2.1 = some (tyX13 k) := by decide +kernel
abbrev cX13_init : ByteArray := prog_12_method_1_code
def yX13_init : MethodName := ⟨RX13, "<init>", "(II)V"⟩
def dkwX13_init_0 : List UInt8 := [42, 27, 28, 183, 0, 1, 177]
abbrev dktX13_init_0 : List UInt8 := dkwX13_init_0 ++ []
theorem dksX13_init_0 : cX13_init.data.toList.drop 0 = dktX13_init_0 := by decide +kernel
theorem dX13_init_0 : decode cX13_init 0 = .ok (.aload_n 0, 1) := dk_42 (dk_at dksX13_init_0 0 rfl rfl)
theorem dX13_init_1 : decode cX13_init 1 = .ok (.iload_n 1, 1) := dk_27 (dk_at dksX13_init_0 1 rfl rfl)
theorem dX13_init_2 : decode cX13_init 2 = .ok (.iload_n 2, 1) := dk_28 (dk_at dksX13_init_0 2 rfl rfl)
theorem dX13_init_3 : decode cX13_init 3 = .ok (.invokespecial 1, 3) := dk_183 0 1 (dk_at dksX13_init_0 3 rfl rfl)
theorem dX13_init_6 : decode cX13_init 6 = .ok (.return_, 1) := dk_177 (dk_at dksX13_init_0 6 rfl rfl)
abbrev cX13_isKept : ByteArray := prog_12_method_2_code
def yX13_isKept : MethodName := ⟨RX13, "isKept", "(I)Z"⟩
def dkwX13_isKept_0 : List UInt8 := [27, 42, 180, 0, 7, 161, 0, 7, 4, 167, 0, 4, 3, 172]
abbrev dktX13_isKept_0 : List UInt8 := dkwX13_isKept_0 ++ []
theorem dksX13_isKept_0 : cX13_isKept.data.toList.drop 0 = dktX13_isKept_0 := by decide +kernel
theorem dX13_isKept_0 : decode cX13_isKept 0 = .ok (.iload_n 1, 1) := dk_27 (dk_at dksX13_isKept_0 0 rfl rfl)
theorem dX13_isKept_1 : decode cX13_isKept 1 = .ok (.aload_n 0, 1) := dk_42 (dk_at dksX13_isKept_0 1 rfl rfl)
theorem dX13_isKept_2 : decode cX13_isKept 2 = .ok (.getfield 7, 3) := dk_180 0 7 (dk_at dksX13_isKept_0 2 rfl rfl)
theorem dX13_isKept_5 : decode cX13_isKept 5 = .ok (.if_icmp .lt 7, 3) := dk_161 0 7 (dk_at dksX13_isKept_0 5 rfl rfl)
theorem dX13_isKept_8 : decode cX13_isKept 8 = .ok (.iconst 1, 1) := dk_4 (dk_at dksX13_isKept_0 8 rfl rfl)
theorem dX13_isKept_9 : decode cX13_isKept 9 = .ok (.goto 4, 3) := dk_167 0 4 (dk_at dksX13_isKept_0 9 rfl rfl)
theorem dX13_isKept_12 : decode cX13_isKept 12 = .ok (.iconst 0, 1) := dk_3 (dk_at dksX13_isKept_0 12 rfl rfl)
theorem dX13_isKept_13 : decode cX13_isKept 13 = .ok (.ireturn, 1) := dk_172 (dk_at dksX13_isKept_0 13 rfl rfl)
theorem q154 : (Jvm.Cond.initialized "StoneYear$Roof") ∈ lw_all := lw_g (lw_at lw_m1 26 rfl) rfl
theorem q757 : (Jvm.Cond.selects "StoneYear$Roof" ({ cls := "java/lang/Object", name := "getClass", desc := "()Ljava/lang/Class;" } : Jvm.MethodName) ({ cls := "java/lang/Object", name := "getClass", desc := "()Ljava/lang/Class;" } : Jvm.MethodName)) ∈ lw_all := lw_g (lw_at lw_m3 149 rfl) rfl
theorem q840 : (Jvm.Cond.instantiable "StoneYear$Roof" (2 : Nat)) ∈ lw_all := lw_g (lw_at lw_m3 232 rfl) rfl
theorem q842 : (Jvm.Cond.instanceMethod ({ cls := "StoneYear$Roof", name := "<init>", desc := "(II)V" } : Jvm.MethodName)) ∈ lw_all := lw_g (lw_at lw_m3 234 rfl) rfl
theorem q843 : (Jvm.Cond.code ({ cls := "StoneYear$Roof", name := "<init>", desc := "(II)V" } : Jvm.MethodName) prog_12_method_1_code (3 : Nat) (Option.none : Option Jvm.ClassFile.FieldType)) ∈ lw_all := lw_g (lw_at lw_m3 235 rfl) rfl
theorem q844 : (Jvm.Cond.methodLink "StoneYear$Roof" (1 : Nat) ({ cls := "StoneYear$Must", name := "<init>", desc := "(II)V" } : Jvm.MethodName)) ∈ lw_all := lw_g (lw_at lw_m3 236 rfl) rfl
theorem q854 : (Jvm.Cond.fieldLink "StoneYear$Roof" (7 : Nat) "StoneYear$Roof" "many" "I") ∈ lw_all := lw_g (lw_at lw_m4 6 rfl) rfl
theorem q855 : (Jvm.Cond.sameField "StoneYear$Roof" "StoneYear$Must" "many" "I") ∈ lw_all := lw_g (lw_at lw_m4 7 rfl) rfl
theorem q856 : (Jvm.Cond.laysFinal "StoneYear$Roof" "StoneYear$Must" "row" "I") ∈ lw_all := lw_g (lw_at lw_m4 8 rfl) rfl
theorem q858 : (Jvm.Cond.laysFinal "StoneYear$Roof" "StoneYear$Must" "many" "I") ∈ lw_all := lw_g (lw_at lw_m4 10 rfl) rfl
theorem q860 : (Jvm.Cond.superclass "StoneYear$Roof" "StoneYear$Must") ∈ lw_all := lw_g (lw_at lw_m4 12 rfl) rfl
theorem q1018 : (Jvm.Cond.selects "StoneYear$Roof" ({ cls := "StoneYear$Must", name := "isKept", desc := "(I)Z" } : Jvm.MethodName) ({ cls := "StoneYear$Roof", name := "isKept", desc := "(I)Z" } : Jvm.MethodName)) ∈ lw_all := lw_g (lw_at lw_m4 170 rfl) rfl
theorem q1019 : (Jvm.Cond.instanceMethod ({ cls := "StoneYear$Roof", name := "isKept", desc := "(I)Z" } : Jvm.MethodName)) ∈ lw_all := lw_g (lw_at lw_m4 171 rfl) rfl
theorem q1020 : (Jvm.Cond.code ({ cls := "StoneYear$Roof", name := "isKept", desc := "(I)Z" } : Jvm.MethodName) prog_12_method_2_code (2 : Nat) (Option.some Jvm.ClassFile.FieldType.boolean)) ∈ lw_all := lw_g (lw_at lw_m4 172 rfl) rfl
theorem q2230 : (Jvm.Cond.castable "StoneYear$Roof" "StoneYear$Must") ∈ lw_tbl := lw_at lw_m9 182 rfl
theorem q2247 : (Jvm.Cond.castable "StoneYear$Roof" "java/lang/Object") ∈ lw_tbl := lw_at lw_m9 199 rfl
theorem in_X13 : ∀ w ∈ wsX130, w ∈ lw_all := lw_in wsX130 [856, 858] (by decide +kernel) (by decide +kernel)
/-! StoneYear$Lane -/
set_option maxRecDepth 100000
def RX14 : String := "StoneYear$Lane"
def TX14 : u_T := fun k => match k with
  | 0 => ("StoneYear$Must", "row", "I", true)
  | _ => ("StoneYear$Must", "many", "I", true)
def tyX14 : Nat → FieldType := fun k => match k with
  | 0 => .int
  | _ => .int
abbrev wsX140 : List Cond := u_ws RX14 TX14 2
theorem nmX14 : ∀ a, a < 2 → ∀ b, b < 2 → a ≠ b → (TX14 a).2.1 ≠ (TX14 b).2.1 := by decide +kernel
theorem tyX14_ok : ∀ k, k < 2 → parseFieldDescriptor (TX14 k).2.2.1 = some (tyX14 k) := by decide +kernel
abbrev cX14_init : ByteArray := prog_6_method_1_code
def yX14_init : MethodName := ⟨RX14, "<init>", "(II)V"⟩
def dkwX14_init_0 : List UInt8 := [42, 27, 28, 183, 0, 1, 177]
abbrev dktX14_init_0 : List UInt8 := dkwX14_init_0 ++ []
theorem dksX14_init_0 : cX14_init.data.toList.drop 0 = dktX14_init_0 := by decide +kernel
theorem dX14_init_0 : decode cX14_init 0 = .ok (.aload_n 0, 1) := dk_42 (dk_at dksX14_init_0 0 rfl rfl)
theorem dX14_init_1 : decode cX14_init 1 = .ok (.iload_n 1, 1) := dk_27 (dk_at dksX14_init_0 1 rfl rfl)
theorem dX14_init_2 : decode cX14_init 2 = .ok (.iload_n 2, 1) := dk_28 (dk_at dksX14_init_0 2 rfl rfl)
theorem dX14_init_3 : decode cX14_init 3 = .ok (.invokespecial 1, 3) := dk_183 0 1 (dk_at dksX14_init_0 3 rfl rfl)
theorem dX14_init_6 : decode cX14_init 6 = .ok (.return_, 1) := dk_177 (dk_at dksX14_init_0 6 rfl rfl)
abbrev cX14_isKept : ByteArray := prog_6_method_2_code
def yX14_isKept : MethodName := ⟨RX14, "isKept", "(I)Z"⟩
def dkwX14_isKept_0 : List UInt8 := [27, 42, 180, 0, 7, 163, 0, 7, 4, 167, 0, 4, 3, 172]
abbrev dktX14_isKept_0 : List UInt8 := dkwX14_isKept_0 ++ []
theorem dksX14_isKept_0 : cX14_isKept.data.toList.drop 0 = dktX14_isKept_0 := by decide +kernel
theorem dX14_isKept_0 : decode cX14_isKept 0 = .ok (.iload_n 1, 1) := dk_27 (dk_at dksX14_isKept_0 0 rfl rfl)
theorem dX14_isKept_1 : decode cX14_isKept 1 = .ok (.aload_n 0, 1) := dk_42 (dk_at dksX14_isKept_0 1 rfl rfl)
theorem dX14_isKept_2 : decode cX14_isKept 2 = .ok (.getfield 7, 3) := dk_180 0 7 (dk_at dksX14_isKept_0 2 rfl rfl)
theorem dX14_isKept_5 : decode cX14_isKept 5 = .ok (.if_icmp .gt 7, 3) := dk_163 0 7 (dk_at dksX14_isKept_0 5 rfl rfl)
theorem dX14_isKept_8 : decode cX14_isKept 8 = .ok (.iconst 1, 1) := dk_4 (dk_at dksX14_isKept_0 8 rfl rfl)
theorem dX14_isKept_9 : decode cX14_isKept 9 = .ok (.goto 4, 3) := dk_167 0 4 (dk_at dksX14_isKept_0 9 rfl rfl)
theorem dX14_isKept_12 : decode cX14_isKept 12 = .ok (.iconst 0, 1) := dk_3 (dk_at dksX14_isKept_0 12 rfl rfl)
theorem dX14_isKept_13 : decode cX14_isKept 13 = .ok (.ireturn, 1) := dk_172 (dk_at dksX14_isKept_0 13 rfl rfl)
theorem q155 : (Jvm.Cond.initialized "StoneYear$Lane") ∈ lw_all := lw_g (lw_at lw_m1 27 rfl) rfl
theorem q752 : (Jvm.Cond.selects "StoneYear$Lane" ({ cls := "java/lang/Object", name := "getClass", desc := "()Ljava/lang/Class;" } : Jvm.MethodName) ({ cls := "java/lang/Object", name := "getClass", desc := "()Ljava/lang/Class;" } : Jvm.MethodName)) ∈ lw_all := lw_g (lw_at lw_m3 144 rfl) rfl
theorem q852 : (Jvm.Cond.fieldLink "StoneYear$Lane" (7 : Nat) "StoneYear$Lane" "many" "I") ∈ lw_all := lw_g (lw_at lw_m4 4 rfl) rfl
theorem q853 : (Jvm.Cond.sameField "StoneYear$Lane" "StoneYear$Must" "many" "I") ∈ lw_all := lw_g (lw_at lw_m4 5 rfl) rfl
theorem q862 : (Jvm.Cond.instantiable "StoneYear$Lane" (2 : Nat)) ∈ lw_all := lw_g (lw_at lw_m4 14 rfl) rfl
theorem q864 : (Jvm.Cond.instanceMethod ({ cls := "StoneYear$Lane", name := "<init>", desc := "(II)V" } : Jvm.MethodName)) ∈ lw_all := lw_g (lw_at lw_m4 16 rfl) rfl
theorem q865 : (Jvm.Cond.code ({ cls := "StoneYear$Lane", name := "<init>", desc := "(II)V" } : Jvm.MethodName) prog_6_method_1_code (3 : Nat) (Option.none : Option Jvm.ClassFile.FieldType)) ∈ lw_all := lw_g (lw_at lw_m4 17 rfl) rfl
theorem q866 : (Jvm.Cond.methodLink "StoneYear$Lane" (1 : Nat) ({ cls := "StoneYear$Must", name := "<init>", desc := "(II)V" } : Jvm.MethodName)) ∈ lw_all := lw_g (lw_at lw_m4 18 rfl) rfl
theorem q867 : (Jvm.Cond.laysFinal "StoneYear$Lane" "StoneYear$Must" "row" "I") ∈ lw_all := lw_g (lw_at lw_m4 19 rfl) rfl
theorem q868 : (Jvm.Cond.laysFinal "StoneYear$Lane" "StoneYear$Must" "many" "I") ∈ lw_all := lw_g (lw_at lw_m4 20 rfl) rfl
theorem q869 : (Jvm.Cond.superclass "StoneYear$Lane" "StoneYear$Must") ∈ lw_all := lw_g (lw_at lw_m4 21 rfl) rfl
theorem q1015 : (Jvm.Cond.selects "StoneYear$Lane" ({ cls := "StoneYear$Must", name := "isKept", desc := "(I)Z" } : Jvm.MethodName) ({ cls := "StoneYear$Lane", name := "isKept", desc := "(I)Z" } : Jvm.MethodName)) ∈ lw_all := lw_g (lw_at lw_m4 167 rfl) rfl
theorem q1016 : (Jvm.Cond.instanceMethod ({ cls := "StoneYear$Lane", name := "isKept", desc := "(I)Z" } : Jvm.MethodName)) ∈ lw_all := lw_g (lw_at lw_m4 168 rfl) rfl
theorem q1017 : (Jvm.Cond.code ({ cls := "StoneYear$Lane", name := "isKept", desc := "(I)Z" } : Jvm.MethodName) prog_6_method_2_code (2 : Nat) (Option.some Jvm.ClassFile.FieldType.boolean)) ∈ lw_all := lw_g (lw_at lw_m4 169 rfl) rfl
theorem q2229 : (Jvm.Cond.castable "StoneYear$Lane" "StoneYear$Must") ∈ lw_tbl := lw_at lw_m9 181 rfl
theorem q2248 : (Jvm.Cond.castable "StoneYear$Lane" "java/lang/Object") ∈ lw_tbl := lw_at lw_m9 200 rfl
theorem in_X14 : ∀ w ∈ wsX140, w ∈ lw_all := lw_in wsX140 [867, 868] (by decide +kernel) (by decide +kernel)
/-! StoneYear$Fact -/
set_option maxRecDepth 100000
def RX15 : String := "StoneYear$Fact"
abbrev cX15_init : ByteArray := prog_4_method_1_code
def yX15_init : MethodName := ⟨RX15, "<init>", "()V"⟩
theorem dX15_init_0 : decode cX15_init 0 = .ok (.aload_n 0, 1) := by decide +kernel
theorem dX15_init_1 : decode cX15_init 1 = .ok (.invokespecial 1, 3) := by decide +kernel
theorem dX15_init_4 : decode cX15_init 4 = .ok (.return_, 1) := by decide +kernel
theorem q156 : (Jvm.Cond.initialized "StoneYear$Fact") ∈ lw_all := lw_g (lw_at lw_m1 28 rfl) rfl
theorem q911 : (Jvm.Cond.instanceMethod ({ cls := "StoneYear$Fact", name := "<init>", desc := "()V" } : Jvm.MethodName)) ∈ lw_all := lw_g (lw_at lw_m4 63 rfl) rfl
theorem q912 : (Jvm.Cond.code ({ cls := "StoneYear$Fact", name := "<init>", desc := "()V" } : Jvm.MethodName) prog_4_method_1_code (1 : Nat) (Option.none : Option Jvm.ClassFile.FieldType)) ∈ lw_all := lw_g (lw_at lw_m4 64 rfl) rfl
theorem q913 : (Jvm.Cond.methodLink "StoneYear$Fact" (1 : Nat) ({ cls := "java/lang/Object", name := "<init>", desc := "()V" } : Jvm.MethodName)) ∈ lw_all := lw_g (lw_at lw_m4 65 rfl) rfl
theorem q1068 : (Jvm.Cond.declares ({ cls := "StoneYear$Fact", name := "is", desc := "(LStoneYear$Going;)Z" } : Jvm.MethodName)) ∈ lw_tbl := lw_at lw_m4 220 rfl
theorem q1069 : (Jvm.Cond.sameMethod "StoneYear$Fact" "StoneYear$Fact" "is" "(LStoneYear$Going;)Z") ∈ lw_all := lw_g (lw_at lw_m4 221 rfl) rfl
/-! StoneYear$Not -/
set_option maxRecDepth 100000
def RX16 : String := "StoneYear$Not"
def TX16 : u_T := fun k => match k with
  | _ => ("StoneYear$Not", "of", "LStoneYear$Fact;", true)
def tyX16 : Nat → FieldType := fun k => match k with
  | _ => .object "StoneYear$Fact"
abbrev wsX160 : List Cond := u_ws RX16 TX16 1
theorem nmX16 : ∀ a, a < 1 → ∀ b, b < 1 → a ≠ b → (TX16 a).2.1 ≠ (TX16 b).2.1 := by decide +kernel
theorem tyX16_ok : ∀ k, k < 1 → parseFieldDescriptor (TX16 k).2.2.1 = some (tyX16 k) := by decide +kernel
abbrev cX16_init : ByteArray := prog_9_method_1_code
def yX16_init : MethodName := ⟨RX16, "<init>", "(LStoneYear$Fact;)V"⟩
def dkwX16_init_0 : List UInt8 := [42, 183, 0, 1, 42, 43, 181, 0, 7, 177]
abbrev dktX16_init_0 : List UInt8 := dkwX16_init_0 ++ []
theorem dksX16_init_0 : cX16_init.data.toList.drop 0 = dktX16_init_0 := by decide +kernel
theorem dX16_init_0 : decode cX16_init 0 = .ok (.aload_n 0, 1) := dk_42 (dk_at dksX16_init_0 0 rfl rfl)
theorem dX16_init_1 : decode cX16_init 1 = .ok (.invokespecial 1, 3) := dk_183 0 1 (dk_at dksX16_init_0 1 rfl rfl)
theorem dX16_init_4 : decode cX16_init 4 = .ok (.aload_n 0, 1) := dk_42 (dk_at dksX16_init_0 4 rfl rfl)
theorem dX16_init_5 : decode cX16_init 5 = .ok (.aload_n 1, 1) := dk_43 (dk_at dksX16_init_0 5 rfl rfl)
theorem dX16_init_6 : decode cX16_init 6 = .ok (.putfield 7, 3) := dk_181 0 7 (dk_at dksX16_init_0 6 rfl rfl)
theorem dX16_init_9 : decode cX16_init 9 = .ok (.return_, 1) := dk_177 (dk_at dksX16_init_0 9 rfl rfl)
abbrev cX16_is : ByteArray := prog_9_method_2_code
def yX16_is : MethodName := ⟨RX16, "is", "(LStoneYear$Going;)Z"⟩
def dkwX16_is_0 : List UInt8 := [42, 180, 0, 7, 43, 182, 0, 13, 154, 0, 7, 4, 167, 0, 4, 3, 172]
abbrev dktX16_is_0 : List UInt8 := dkwX16_is_0 ++ []
theorem dksX16_is_0 : cX16_is.data.toList.drop 0 = dktX16_is_0 := by decide +kernel
theorem dX16_is_0 : decode cX16_is 0 = .ok (.aload_n 0, 1) := dk_42 (dk_at dksX16_is_0 0 rfl rfl)
theorem dX16_is_1 : decode cX16_is 1 = .ok (.getfield 7, 3) := dk_180 0 7 (dk_at dksX16_is_0 1 rfl rfl)
theorem dX16_is_4 : decode cX16_is 4 = .ok (.aload_n 1, 1) := dk_43 (dk_at dksX16_is_0 4 rfl rfl)
theorem dX16_is_5 : decode cX16_is 5 = .ok (.invokevirtual 13, 3) := dk_182 0 13 (dk_at dksX16_is_0 5 rfl rfl)
theorem dX16_is_8 : decode cX16_is 8 = .ok (.ifCond .ne 7, 3) := dk_154 0 7 (dk_at dksX16_is_0 8 rfl rfl)
theorem dX16_is_11 : decode cX16_is 11 = .ok (.iconst 1, 1) := dk_4 (dk_at dksX16_is_0 11 rfl rfl)
theorem dX16_is_12 : decode cX16_is 12 = .ok (.goto 4, 3) := dk_167 0 4 (dk_at dksX16_is_0 12 rfl rfl)
theorem dX16_is_15 : decode cX16_is 15 = .ok (.iconst 0, 1) := dk_3 (dk_at dksX16_is_0 15 rfl rfl)
theorem dX16_is_16 : decode cX16_is 16 = .ok (.ireturn, 1) := dk_172 (dk_at dksX16_is_0 16 rfl rfl)
theorem q157 : (Jvm.Cond.initialized "StoneYear$Not") ∈ lw_all := lw_g (lw_at lw_m1 29 rfl) rfl
theorem q754 : (Jvm.Cond.selects "StoneYear$Not" ({ cls := "java/lang/Object", name := "getClass", desc := "()Ljava/lang/Class;" } : Jvm.MethodName) ({ cls := "java/lang/Object", name := "getClass", desc := "()Ljava/lang/Class;" } : Jvm.MethodName)) ∈ lw_all := lw_g (lw_at lw_m3 146 rfl) rfl
theorem q906 : (Jvm.Cond.instantiable "StoneYear$Not" (1 : Nat)) ∈ lw_all := lw_g (lw_at lw_m4 58 rfl) rfl
theorem q908 : (Jvm.Cond.instanceMethod ({ cls := "StoneYear$Not", name := "<init>", desc := "(LStoneYear$Fact;)V" } : Jvm.MethodName)) ∈ lw_all := lw_g (lw_at lw_m4 60 rfl) rfl
theorem q909 : (Jvm.Cond.code ({ cls := "StoneYear$Not", name := "<init>", desc := "(LStoneYear$Fact;)V" } : Jvm.MethodName) prog_9_method_1_code (2 : Nat) (Option.none : Option Jvm.ClassFile.FieldType)) ∈ lw_all := lw_g (lw_at lw_m4 61 rfl) rfl
theorem q910 : (Jvm.Cond.methodLinkNest "StoneYear$Not" (1 : Nat) ({ cls := "StoneYear$Fact", name := "<init>", desc := "()V" } : Jvm.MethodName) "StoneYear") ∈ lw_tbl := lw_at lw_m4 62 rfl
theorem q914 : (Jvm.Cond.fieldLink "StoneYear$Not" (7 : Nat) "StoneYear$Not" "of" "LStoneYear$Fact;") ∈ lw_all := lw_g (lw_at lw_m4 66 rfl) rfl
theorem q915 : (Jvm.Cond.laysFinal "StoneYear$Not" "StoneYear$Not" "of" "LStoneYear$Fact;") ∈ lw_all := lw_g (lw_at lw_m4 67 rfl) rfl
theorem q916 : (Jvm.Cond.soleField "StoneYear$Not" "of") ∈ lw_all := lw_g (lw_at lw_m4 68 rfl) rfl
theorem q917 : (Jvm.Cond.superclass "StoneYear$Not" "StoneYear$Fact") ∈ lw_all := lw_g (lw_at lw_m4 69 rfl) rfl
theorem q1077 : (Jvm.Cond.instanceMethod ({ cls := "StoneYear$Not", name := "is", desc := "(LStoneYear$Going;)Z" } : Jvm.MethodName)) ∈ lw_all := lw_g (lw_at lw_m4 229 rfl) rfl
theorem q1078 : (Jvm.Cond.code ({ cls := "StoneYear$Not", name := "is", desc := "(LStoneYear$Going;)Z" } : Jvm.MethodName) prog_9_method_2_code (2 : Nat) (Option.some Jvm.ClassFile.FieldType.boolean)) ∈ lw_all := lw_g (lw_at lw_m4 230 rfl) rfl
theorem q1079 : (Jvm.Cond.methodLink "StoneYear$Not" (13 : Nat) ({ cls := "StoneYear$Fact", name := "is", desc := "(LStoneYear$Going;)Z" } : Jvm.MethodName)) ∈ lw_all := lw_g (lw_at lw_m4 231 rfl) rfl
theorem q1080 : (Jvm.Cond.selects "StoneYear$Not" ({ cls := "StoneYear$Fact", name := "is", desc := "(LStoneYear$Going;)Z" } : Jvm.MethodName) ({ cls := "StoneYear$Not", name := "is", desc := "(LStoneYear$Going;)Z" } : Jvm.MethodName)) ∈ lw_all := lw_g (lw_at lw_m4 232 rfl) rfl
theorem q2233 : (Jvm.Cond.castable "StoneYear$Not" "StoneYear$Fact") ∈ lw_tbl := lw_at lw_m9 185 rfl
theorem q2249 : (Jvm.Cond.castable "StoneYear$Not" "java/lang/Object") ∈ lw_tbl := lw_at lw_m9 201 rfl
theorem in_X16 : ∀ w ∈ wsX160, w ∈ lw_all := lw_in wsX160 [915] (by decide +kernel) (by decide +kernel)
/-! StoneYear$Asked -/
set_option maxRecDepth 100000
def RX17 : String := "StoneYear$Asked"
def TX17 : u_T := fun k => match k with
  | 0 => ("StoneYear$Asked", "what", "I", true)
  | _ => ("StoneYear$Asked", "number", "I", true)
def tyX17 : Nat → FieldType := fun k => match k with
  | 0 => .int
  | _ => .int
abbrev wsX170 : List Cond := u_ws RX17 TX17 2
theorem nmX17 : ∀ a, a < 2 → ∀ b, b < 2 → a ≠ b → (TX17 a).2.1 ≠ (TX17 b).2.1 := by decide +kernel
theorem tyX17_ok : ∀ k, k < 2 → parseFieldDescriptor (TX17 k).2.2.1 = some (tyX17 k) := by decide +kernel
abbrev cX17_init : ByteArray := prog_2_method_1_code
def yX17_init : MethodName := ⟨RX17, "<init>", "(II)V"⟩
def dkwX17_init_0 : List UInt8 := [42, 183, 0, 1, 42, 27, 181, 0, 7, 42, 28, 181, 0, 13, 177]
abbrev dktX17_init_0 : List UInt8 := dkwX17_init_0 ++ []
theorem dksX17_init_0 : cX17_init.data.toList.drop 0 = dktX17_init_0 := by decide +kernel
theorem dX17_init_0 : decode cX17_init 0 = .ok (.aload_n 0, 1) := dk_42 (dk_at dksX17_init_0 0 rfl rfl)
theorem dX17_init_1 : decode cX17_init 1 = .ok (.invokespecial 1, 3) := dk_183 0 1 (dk_at dksX17_init_0 1 rfl rfl)
theorem dX17_init_4 : decode cX17_init 4 = .ok (.aload_n 0, 1) := dk_42 (dk_at dksX17_init_0 4 rfl rfl)
theorem dX17_init_5 : decode cX17_init 5 = .ok (.iload_n 1, 1) := dk_27 (dk_at dksX17_init_0 5 rfl rfl)
theorem dX17_init_6 : decode cX17_init 6 = .ok (.putfield 7, 3) := dk_181 0 7 (dk_at dksX17_init_0 6 rfl rfl)
theorem dX17_init_9 : decode cX17_init 9 = .ok (.aload_n 0, 1) := dk_42 (dk_at dksX17_init_0 9 rfl rfl)
theorem dX17_init_10 : decode cX17_init 10 = .ok (.iload_n 2, 1) := dk_28 (dk_at dksX17_init_0 10 rfl rfl)
theorem dX17_init_11 : decode cX17_init 11 = .ok (.putfield 13, 3) := dk_181 0 13 (dk_at dksX17_init_0 11 rfl rfl)
theorem dX17_init_14 : decode cX17_init 14 = .ok (.return_, 1) := dk_177 (dk_at dksX17_init_0 14 rfl rfl)
abbrev cX17_is : ByteArray := prog_2_method_2_code
def yX17_is : MethodName := ⟨RX17, "is", "(LStoneYear$Going;)Z"⟩
def dkwX17_is_6 : List UInt8 := [161, 0, 7, 4, 167, 0, 4, 3, 172]
abbrev dktX17_is_6 : List UInt8 := dkwX17_is_6 ++ []
def dkwX17_is_5 : List UInt8 := [180, 0, 30, 42, 180, 0, 13, 161, 0, 7, 4, 167, 0, 4, 3, 172, 43, 180, 0, 33, 42, 180, 0, 13]
abbrev dktX17_is_5 : List UInt8 := dkwX17_is_5 ++ dktX17_is_6
def dkwX17_is_4 : List UInt8 := [167, 0, 4, 3, 172, 43, 180, 0, 27, 42, 180, 0, 13, 160, 0, 7, 4, 167, 0, 4, 3, 172, 43]
abbrev dktX17_is_4 : List UInt8 := dkwX17_is_4 ++ dktX17_is_5
def dkwX17_is_3 : List UInt8 := [180, 0, 13, 161, 0, 7, 4, 167, 0, 4, 3, 172, 43, 180, 0, 24, 42, 180, 0, 13, 160, 0, 7, 4]
abbrev dktX17_is_3 : List UInt8 := dkwX17_is_3 ++ dktX17_is_4
def dkwX17_is_2 : List UInt8 := [43, 180, 0, 16, 42, 180, 0, 13, 160, 0, 7, 4, 167, 0, 4, 3, 172, 43, 180, 0, 21, 42]
abbrev dktX17_is_2 : List UInt8 := dkwX17_is_2 ++ dktX17_is_3
def dkwX17_is_1 : List UInt8 := [170, 0, 0, 0, 0, 0, 0, 121, 0, 0, 0, 0, 0, 0, 0, 4, 0, 0, 0, 36, 0, 0, 0, 53, 0, 0, 0, 70, 0, 0, 0, 87, 0, 0, 0, 104]
abbrev dktX17_is_1 : List UInt8 := dkwX17_is_1 ++ dktX17_is_2
def dkwX17_is_0 : List UInt8 := [42, 180, 0, 7]
abbrev dktX17_is_0 : List UInt8 := dkwX17_is_0 ++ dktX17_is_1
theorem dksX17_is_0 : cX17_is.data.toList.drop 0 = dktX17_is_0 := by decide +kernel
theorem dksX17_is_1 : cX17_is.data.toList.drop 4 = dktX17_is_1 := dk_seg dksX17_is_0 4 rfl rfl
theorem dksX17_is_2 : cX17_is.data.toList.drop 40 = dktX17_is_2 := dk_seg dksX17_is_1 36 rfl rfl
theorem dksX17_is_3 : cX17_is.data.toList.drop 62 = dktX17_is_3 := dk_seg dksX17_is_2 22 rfl rfl
theorem dksX17_is_4 : cX17_is.data.toList.drop 86 = dktX17_is_4 := dk_seg dksX17_is_3 24 rfl rfl
theorem dksX17_is_5 : cX17_is.data.toList.drop 109 = dktX17_is_5 := dk_seg dksX17_is_4 23 rfl rfl
theorem dksX17_is_6 : cX17_is.data.toList.drop 133 = dktX17_is_6 := dk_seg dksX17_is_5 24 rfl rfl
theorem dX17_is_0 : decode cX17_is 0 = .ok (.aload_n 0, 1) := dk_42 (dk_at dksX17_is_0 0 rfl rfl)
theorem dX17_is_1 : decode cX17_is 1 = .ok (.getfield 7, 3) := dk_180 0 7 (dk_at dksX17_is_0 1 rfl rfl)
theorem dX17_is_4 : decode cX17_is 4 = .ok (.tableswitch 121 0 4 #[36, 53, 70, 87, 104], 36) := by decide +kernel
theorem dX17_is_40 : decode cX17_is 40 = .ok (.aload_n 1, 1) := dk_43 (dk_at dksX17_is_2 0 rfl rfl)
theorem dX17_is_41 : decode cX17_is 41 = .ok (.getfield 16, 3) := dk_180 0 16 (dk_at dksX17_is_2 1 rfl rfl)
theorem dX17_is_44 : decode cX17_is 44 = .ok (.aload_n 0, 1) := dk_42 (dk_at dksX17_is_2 4 rfl rfl)
theorem dX17_is_45 : decode cX17_is 45 = .ok (.getfield 13, 3) := dk_180 0 13 (dk_at dksX17_is_2 5 rfl rfl)
theorem dX17_is_48 : decode cX17_is 48 = .ok (.if_icmp .ne 7, 3) := dk_160 0 7 (dk_at dksX17_is_2 8 rfl rfl)
theorem dX17_is_51 : decode cX17_is 51 = .ok (.iconst 1, 1) := dk_4 (dk_at dksX17_is_2 11 rfl rfl)
theorem dX17_is_52 : decode cX17_is 52 = .ok (.goto 4, 3) := dk_167 0 4 (dk_at dksX17_is_2 12 rfl rfl)
theorem dX17_is_55 : decode cX17_is 55 = .ok (.iconst 0, 1) := dk_3 (dk_at dksX17_is_2 15 rfl rfl)
theorem dX17_is_56 : decode cX17_is 56 = .ok (.ireturn, 1) := dk_172 (dk_at dksX17_is_2 16 rfl rfl)
theorem dX17_is_57 : decode cX17_is 57 = .ok (.aload_n 1, 1) := dk_43 (dk_at dksX17_is_2 17 rfl rfl)
theorem dX17_is_58 : decode cX17_is 58 = .ok (.getfield 21, 3) := dk_180 0 21 (dk_at dksX17_is_2 18 rfl rfl)
theorem dX17_is_61 : decode cX17_is 61 = .ok (.aload_n 0, 1) := dk_42 (dk_at dksX17_is_2 21 rfl rfl)
theorem dX17_is_62 : decode cX17_is 62 = .ok (.getfield 13, 3) := dk_180 0 13 (dk_at dksX17_is_3 0 rfl rfl)
theorem dX17_is_65 : decode cX17_is 65 = .ok (.if_icmp .lt 7, 3) := dk_161 0 7 (dk_at dksX17_is_3 3 rfl rfl)
theorem dX17_is_68 : decode cX17_is 68 = .ok (.iconst 1, 1) := dk_4 (dk_at dksX17_is_3 6 rfl rfl)
theorem dX17_is_69 : decode cX17_is 69 = .ok (.goto 4, 3) := dk_167 0 4 (dk_at dksX17_is_3 7 rfl rfl)
theorem dX17_is_72 : decode cX17_is 72 = .ok (.iconst 0, 1) := dk_3 (dk_at dksX17_is_3 10 rfl rfl)
theorem dX17_is_73 : decode cX17_is 73 = .ok (.ireturn, 1) := dk_172 (dk_at dksX17_is_3 11 rfl rfl)
theorem dX17_is_74 : decode cX17_is 74 = .ok (.aload_n 1, 1) := dk_43 (dk_at dksX17_is_3 12 rfl rfl)
theorem dX17_is_75 : decode cX17_is 75 = .ok (.getfield 24, 3) := dk_180 0 24 (dk_at dksX17_is_3 13 rfl rfl)
theorem dX17_is_78 : decode cX17_is 78 = .ok (.aload_n 0, 1) := dk_42 (dk_at dksX17_is_3 16 rfl rfl)
theorem dX17_is_79 : decode cX17_is 79 = .ok (.getfield 13, 3) := dk_180 0 13 (dk_at dksX17_is_3 17 rfl rfl)
theorem dX17_is_82 : decode cX17_is 82 = .ok (.if_icmp .ne 7, 3) := dk_160 0 7 (dk_at dksX17_is_3 20 rfl rfl)
theorem dX17_is_85 : decode cX17_is 85 = .ok (.iconst 1, 1) := dk_4 (dk_at dksX17_is_3 23 rfl rfl)
theorem dX17_is_86 : decode cX17_is 86 = .ok (.goto 4, 3) := dk_167 0 4 (dk_at dksX17_is_4 0 rfl rfl)
theorem dX17_is_89 : decode cX17_is 89 = .ok (.iconst 0, 1) := dk_3 (dk_at dksX17_is_4 3 rfl rfl)
theorem dX17_is_90 : decode cX17_is 90 = .ok (.ireturn, 1) := dk_172 (dk_at dksX17_is_4 4 rfl rfl)
theorem dX17_is_91 : decode cX17_is 91 = .ok (.aload_n 1, 1) := dk_43 (dk_at dksX17_is_4 5 rfl rfl)
theorem dX17_is_92 : decode cX17_is 92 = .ok (.getfield 27, 3) := dk_180 0 27 (dk_at dksX17_is_4 6 rfl rfl)
theorem dX17_is_95 : decode cX17_is 95 = .ok (.aload_n 0, 1) := dk_42 (dk_at dksX17_is_4 9 rfl rfl)
theorem dX17_is_96 : decode cX17_is 96 = .ok (.getfield 13, 3) := dk_180 0 13 (dk_at dksX17_is_4 10 rfl rfl)
theorem dX17_is_99 : decode cX17_is 99 = .ok (.if_icmp .ne 7, 3) := dk_160 0 7 (dk_at dksX17_is_4 13 rfl rfl)
theorem dX17_is_102 : decode cX17_is 102 = .ok (.iconst 1, 1) := dk_4 (dk_at dksX17_is_4 16 rfl rfl)
theorem dX17_is_103 : decode cX17_is 103 = .ok (.goto 4, 3) := dk_167 0 4 (dk_at dksX17_is_4 17 rfl rfl)
theorem dX17_is_106 : decode cX17_is 106 = .ok (.iconst 0, 1) := dk_3 (dk_at dksX17_is_4 20 rfl rfl)
theorem dX17_is_107 : decode cX17_is 107 = .ok (.ireturn, 1) := dk_172 (dk_at dksX17_is_4 21 rfl rfl)
theorem dX17_is_108 : decode cX17_is 108 = .ok (.aload_n 1, 1) := dk_43 (dk_at dksX17_is_4 22 rfl rfl)
theorem dX17_is_109 : decode cX17_is 109 = .ok (.getfield 30, 3) := dk_180 0 30 (dk_at dksX17_is_5 0 rfl rfl)
theorem dX17_is_112 : decode cX17_is 112 = .ok (.aload_n 0, 1) := dk_42 (dk_at dksX17_is_5 3 rfl rfl)
theorem dX17_is_113 : decode cX17_is 113 = .ok (.getfield 13, 3) := dk_180 0 13 (dk_at dksX17_is_5 4 rfl rfl)
theorem dX17_is_116 : decode cX17_is 116 = .ok (.if_icmp .lt 7, 3) := dk_161 0 7 (dk_at dksX17_is_5 7 rfl rfl)
theorem dX17_is_119 : decode cX17_is 119 = .ok (.iconst 1, 1) := dk_4 (dk_at dksX17_is_5 10 rfl rfl)
theorem dX17_is_120 : decode cX17_is 120 = .ok (.goto 4, 3) := dk_167 0 4 (dk_at dksX17_is_5 11 rfl rfl)
theorem dX17_is_123 : decode cX17_is 123 = .ok (.iconst 0, 1) := dk_3 (dk_at dksX17_is_5 14 rfl rfl)
theorem dX17_is_124 : decode cX17_is 124 = .ok (.ireturn, 1) := dk_172 (dk_at dksX17_is_5 15 rfl rfl)
theorem dX17_is_125 : decode cX17_is 125 = .ok (.aload_n 1, 1) := dk_43 (dk_at dksX17_is_5 16 rfl rfl)
theorem dX17_is_126 : decode cX17_is 126 = .ok (.getfield 33, 3) := dk_180 0 33 (dk_at dksX17_is_5 17 rfl rfl)
theorem dX17_is_129 : decode cX17_is 129 = .ok (.aload_n 0, 1) := dk_42 (dk_at dksX17_is_5 20 rfl rfl)
theorem dX17_is_130 : decode cX17_is 130 = .ok (.getfield 13, 3) := dk_180 0 13 (dk_at dksX17_is_5 21 rfl rfl)
theorem dX17_is_133 : decode cX17_is 133 = .ok (.if_icmp .lt 7, 3) := dk_161 0 7 (dk_at dksX17_is_6 0 rfl rfl)
theorem dX17_is_136 : decode cX17_is 136 = .ok (.iconst 1, 1) := dk_4 (dk_at dksX17_is_6 3 rfl rfl)
theorem dX17_is_137 : decode cX17_is 137 = .ok (.goto 4, 3) := dk_167 0 4 (dk_at dksX17_is_6 4 rfl rfl)
theorem dX17_is_140 : decode cX17_is 140 = .ok (.iconst 0, 1) := dk_3 (dk_at dksX17_is_6 7 rfl rfl)
theorem dX17_is_141 : decode cX17_is 141 = .ok (.ireturn, 1) := dk_172 (dk_at dksX17_is_6 8 rfl rfl)
theorem q158 : (Jvm.Cond.initialized "StoneYear$Asked") ∈ lw_all := lw_g (lw_at lw_m1 30 rfl) rfl
theorem q300 : (Jvm.Cond.fieldLinkNest "StoneYear$Asked" (16 : Nat) "StoneYear$Going" "sort" "I" "StoneYear") ∈ lw_tbl := lw_at lw_m1 172 rfl
theorem q302 : (Jvm.Cond.fieldLinkNest "StoneYear$Asked" (21 : Nat) "StoneYear$Going" "size" "I" "StoneYear") ∈ lw_tbl := lw_at lw_m1 174 rfl
theorem q304 : (Jvm.Cond.fieldLinkNest "StoneYear$Asked" (24 : Nat) "StoneYear$Going" "from" "I" "StoneYear") ∈ lw_tbl := lw_at lw_m1 176 rfl
theorem q306 : (Jvm.Cond.fieldLinkNest "StoneYear$Asked" (27 : Nat) "StoneYear$Going" "to" "I" "StoneYear") ∈ lw_tbl := lw_at lw_m1 178 rfl
theorem q308 : (Jvm.Cond.fieldLinkNest "StoneYear$Asked" (30 : Nat) "StoneYear$Going" "level" "I" "StoneYear") ∈ lw_tbl := lw_at lw_m1 180 rfl
theorem q310 : (Jvm.Cond.fieldLinkNest "StoneYear$Asked" (33 : Nat) "StoneYear$Going" "full" "I" "StoneYear") ∈ lw_tbl := lw_at lw_m1 182 rfl
theorem q749 : (Jvm.Cond.selects "StoneYear$Asked" ({ cls := "java/lang/Object", name := "getClass", desc := "()Ljava/lang/Class;" } : Jvm.MethodName) ({ cls := "java/lang/Object", name := "getClass", desc := "()Ljava/lang/Class;" } : Jvm.MethodName)) ∈ lw_all := lw_g (lw_at lw_m3 141 rfl) rfl
theorem q924 : (Jvm.Cond.instantiable "StoneYear$Asked" (2 : Nat)) ∈ lw_all := lw_g (lw_at lw_m4 76 rfl) rfl
theorem q926 : (Jvm.Cond.instanceMethod ({ cls := "StoneYear$Asked", name := "<init>", desc := "(II)V" } : Jvm.MethodName)) ∈ lw_all := lw_g (lw_at lw_m4 78 rfl) rfl
theorem q927 : (Jvm.Cond.code ({ cls := "StoneYear$Asked", name := "<init>", desc := "(II)V" } : Jvm.MethodName) prog_2_method_1_code (3 : Nat) (Option.none : Option Jvm.ClassFile.FieldType)) ∈ lw_all := lw_g (lw_at lw_m4 79 rfl) rfl
theorem q928 : (Jvm.Cond.methodLinkNest "StoneYear$Asked" (1 : Nat) ({ cls := "StoneYear$Fact", name := "<init>", desc := "()V" } : Jvm.MethodName) "StoneYear") ∈ lw_tbl := lw_at lw_m4 80 rfl
theorem q929 : (Jvm.Cond.fieldLink "StoneYear$Asked" (7 : Nat) "StoneYear$Asked" "what" "I") ∈ lw_all := lw_g (lw_at lw_m4 81 rfl) rfl
theorem q930 : (Jvm.Cond.fieldLink "StoneYear$Asked" (13 : Nat) "StoneYear$Asked" "number" "I") ∈ lw_all := lw_g (lw_at lw_m4 82 rfl) rfl
theorem q931 : (Jvm.Cond.laysFinal "StoneYear$Asked" "StoneYear$Asked" "what" "I") ∈ lw_all := lw_g (lw_at lw_m4 83 rfl) rfl
theorem q932 : (Jvm.Cond.soleField "StoneYear$Asked" "what") ∈ lw_all := lw_g (lw_at lw_m4 84 rfl) rfl
theorem q933 : (Jvm.Cond.laysFinal "StoneYear$Asked" "StoneYear$Asked" "number" "I") ∈ lw_all := lw_g (lw_at lw_m4 85 rfl) rfl
theorem q934 : (Jvm.Cond.soleField "StoneYear$Asked" "number") ∈ lw_all := lw_g (lw_at lw_m4 86 rfl) rfl
theorem q935 : (Jvm.Cond.superclass "StoneYear$Asked" "StoneYear$Fact") ∈ lw_all := lw_g (lw_at lw_m4 87 rfl) rfl
theorem q1070 : (Jvm.Cond.selects "StoneYear$Asked" ({ cls := "StoneYear$Fact", name := "is", desc := "(LStoneYear$Going;)Z" } : Jvm.MethodName) ({ cls := "StoneYear$Asked", name := "is", desc := "(LStoneYear$Going;)Z" } : Jvm.MethodName)) ∈ lw_all := lw_g (lw_at lw_m4 222 rfl) rfl
theorem q1071 : (Jvm.Cond.instanceMethod ({ cls := "StoneYear$Asked", name := "is", desc := "(LStoneYear$Going;)Z" } : Jvm.MethodName)) ∈ lw_all := lw_g (lw_at lw_m4 223 rfl) rfl
theorem q1072 : (Jvm.Cond.code ({ cls := "StoneYear$Asked", name := "is", desc := "(LStoneYear$Going;)Z" } : Jvm.MethodName) prog_2_method_2_code (2 : Nat) (Option.some Jvm.ClassFile.FieldType.boolean)) ∈ lw_all := lw_g (lw_at lw_m4 224 rfl) rfl
theorem q2231 : (Jvm.Cond.castable "StoneYear$Asked" "StoneYear$Fact") ∈ lw_tbl := lw_at lw_m9 183 rfl
theorem q2250 : (Jvm.Cond.castable "StoneYear$Asked" "java/lang/Object") ∈ lw_tbl := lw_at lw_m9 202 rfl
theorem in_X17 : ∀ w ∈ wsX170, w ∈ lw_all := lw_in wsX170 [931, 933] (by decide +kernel) (by decide +kernel)
/-! StoneYear$Both -/
set_option maxRecDepth 100000
def RX18 : String := "StoneYear$Both"
def TX18 : u_T := fun k => match k with
  | 0 => ("StoneYear$Both", "isAnd", "Z", true)
  | 1 => ("StoneYear$Both", "one", "LStoneYear$Fact;", true)
  | _ => ("StoneYear$Both", "two", "LStoneYear$Fact;", true)
def tyX18 : Nat → FieldType := fun k => match k with
  | 0 => .boolean
  | 1 => .object "StoneYear$Fact"
  | _ => .object "StoneYear$Fact"
abbrev wsX180 : List Cond := u_ws RX18 TX18 3
theorem nmX18 : ∀ a, a < 3 → ∀ b, b < 3 → a ≠ b → (TX18 a).2.1 ≠ (TX18 b).2.1 := by decide +kernel
theorem tyX18_ok : ∀ k, k < 3 → parseFieldDescriptor (TX18 k).2.2.1 = some (tyX18 k) := by decide +kernel
abbrev cX18_init : ByteArray := prog_3_method_1_code
def yX18_init : MethodName := ⟨RX18, "<init>", "(ZLStoneYear$Fact;LStoneYear$Fact;)V"⟩
def dkwX18_init_0 : List UInt8 := [42, 183, 0, 1, 42, 27, 181, 0, 7, 42, 44, 181, 0, 13, 42, 45, 181, 0, 17, 177]
abbrev dktX18_init_0 : List UInt8 := dkwX18_init_0 ++ []
theorem dksX18_init_0 : cX18_init.data.toList.drop 0 = dktX18_init_0 := by decide +kernel
theorem dX18_init_0 : decode cX18_init 0 = .ok (.aload_n 0, 1) := dk_42 (dk_at dksX18_init_0 0 rfl rfl)
theorem dX18_init_1 : decode cX18_init 1 = .ok (.invokespecial 1, 3) := dk_183 0 1 (dk_at dksX18_init_0 1 rfl rfl)
theorem dX18_init_4 : decode cX18_init 4 = .ok (.aload_n 0, 1) := dk_42 (dk_at dksX18_init_0 4 rfl rfl)
theorem dX18_init_5 : decode cX18_init 5 = .ok (.iload_n 1, 1) := dk_27 (dk_at dksX18_init_0 5 rfl rfl)
theorem dX18_init_6 : decode cX18_init 6 = .ok (.putfield 7, 3) := dk_181 0 7 (dk_at dksX18_init_0 6 rfl rfl)
theorem dX18_init_9 : decode cX18_init 9 = .ok (.aload_n 0, 1) := dk_42 (dk_at dksX18_init_0 9 rfl rfl)
theorem dX18_init_10 : decode cX18_init 10 = .ok (.aload_n 2, 1) := dk_44 (dk_at dksX18_init_0 10 rfl rfl)
theorem dX18_init_11 : decode cX18_init 11 = .ok (.putfield 13, 3) := dk_181 0 13 (dk_at dksX18_init_0 11 rfl rfl)
theorem dX18_init_14 : decode cX18_init 14 = .ok (.aload_n 0, 1) := dk_42 (dk_at dksX18_init_0 14 rfl rfl)
theorem dX18_init_15 : decode cX18_init 15 = .ok (.aload_n 3, 1) := dk_45 (dk_at dksX18_init_0 15 rfl rfl)
theorem dX18_init_16 : decode cX18_init 16 = .ok (.putfield 17, 3) := dk_181 0 17 (dk_at dksX18_init_0 16 rfl rfl)
theorem dX18_init_19 : decode cX18_init 19 = .ok (.return_, 1) := dk_177 (dk_at dksX18_init_0 19 rfl rfl)
abbrev cX18_is : ByteArray := prog_3_method_2_code
def yX18_is : MethodName := ⟨RX18, "is", "(LStoneYear$Going;)Z"⟩
def dkwX18_is_2 : List UInt8 := [154, 0, 14, 42, 180, 0, 17, 43, 182, 0, 20, 153, 0, 7, 4, 167, 0, 4, 3, 172]
abbrev dktX18_is_2 : List UInt8 := dkwX18_is_2 ++ []
def dkwX18_is_1 : List UInt8 := [182, 0, 20, 153, 0, 7, 4, 167, 0, 34, 3, 167, 0, 30, 42, 180, 0, 13, 43, 182, 0, 20]
abbrev dktX18_is_1 : List UInt8 := dkwX18_is_1 ++ dktX18_is_2
def dkwX18_is_0 : List UInt8 := [42, 180, 0, 7, 153, 0, 33, 42, 180, 0, 13, 43, 182, 0, 20, 153, 0, 18, 42, 180, 0, 17, 43]
abbrev dktX18_is_0 : List UInt8 := dkwX18_is_0 ++ dktX18_is_1
theorem dksX18_is_0 : cX18_is.data.toList.drop 0 = dktX18_is_0 := by decide +kernel
theorem dksX18_is_1 : cX18_is.data.toList.drop 23 = dktX18_is_1 := dk_seg dksX18_is_0 23 rfl rfl
theorem dksX18_is_2 : cX18_is.data.toList.drop 45 = dktX18_is_2 := dk_seg dksX18_is_1 22 rfl rfl
theorem dX18_is_0 : decode cX18_is 0 = .ok (.aload_n 0, 1) := dk_42 (dk_at dksX18_is_0 0 rfl rfl)
theorem dX18_is_1 : decode cX18_is 1 = .ok (.getfield 7, 3) := dk_180 0 7 (dk_at dksX18_is_0 1 rfl rfl)
theorem dX18_is_4 : decode cX18_is 4 = .ok (.ifCond .eq 33, 3) := dk_153 0 33 (dk_at dksX18_is_0 4 rfl rfl)
theorem dX18_is_7 : decode cX18_is 7 = .ok (.aload_n 0, 1) := dk_42 (dk_at dksX18_is_0 7 rfl rfl)
theorem dX18_is_8 : decode cX18_is 8 = .ok (.getfield 13, 3) := dk_180 0 13 (dk_at dksX18_is_0 8 rfl rfl)
theorem dX18_is_11 : decode cX18_is 11 = .ok (.aload_n 1, 1) := dk_43 (dk_at dksX18_is_0 11 rfl rfl)
theorem dX18_is_12 : decode cX18_is 12 = .ok (.invokevirtual 20, 3) := dk_182 0 20 (dk_at dksX18_is_0 12 rfl rfl)
theorem dX18_is_15 : decode cX18_is 15 = .ok (.ifCond .eq 18, 3) := dk_153 0 18 (dk_at dksX18_is_0 15 rfl rfl)
theorem dX18_is_18 : decode cX18_is 18 = .ok (.aload_n 0, 1) := dk_42 (dk_at dksX18_is_0 18 rfl rfl)
theorem dX18_is_19 : decode cX18_is 19 = .ok (.getfield 17, 3) := dk_180 0 17 (dk_at dksX18_is_0 19 rfl rfl)
theorem dX18_is_22 : decode cX18_is 22 = .ok (.aload_n 1, 1) := dk_43 (dk_at dksX18_is_0 22 rfl rfl)
theorem dX18_is_23 : decode cX18_is 23 = .ok (.invokevirtual 20, 3) := dk_182 0 20 (dk_at dksX18_is_1 0 rfl rfl)
theorem dX18_is_26 : decode cX18_is 26 = .ok (.ifCond .eq 7, 3) := dk_153 0 7 (dk_at dksX18_is_1 3 rfl rfl)
theorem dX18_is_29 : decode cX18_is 29 = .ok (.iconst 1, 1) := dk_4 (dk_at dksX18_is_1 6 rfl rfl)
theorem dX18_is_30 : decode cX18_is 30 = .ok (.goto 34, 3) := dk_167 0 34 (dk_at dksX18_is_1 7 rfl rfl)
theorem dX18_is_33 : decode cX18_is 33 = .ok (.iconst 0, 1) := dk_3 (dk_at dksX18_is_1 10 rfl rfl)
theorem dX18_is_34 : decode cX18_is 34 = .ok (.goto 30, 3) := dk_167 0 30 (dk_at dksX18_is_1 11 rfl rfl)
theorem dX18_is_37 : decode cX18_is 37 = .ok (.aload_n 0, 1) := dk_42 (dk_at dksX18_is_1 14 rfl rfl)
theorem dX18_is_38 : decode cX18_is 38 = .ok (.getfield 13, 3) := dk_180 0 13 (dk_at dksX18_is_1 15 rfl rfl)
theorem dX18_is_41 : decode cX18_is 41 = .ok (.aload_n 1, 1) := dk_43 (dk_at dksX18_is_1 18 rfl rfl)
theorem dX18_is_42 : decode cX18_is 42 = .ok (.invokevirtual 20, 3) := dk_182 0 20 (dk_at dksX18_is_1 19 rfl rfl)
theorem dX18_is_45 : decode cX18_is 45 = .ok (.ifCond .ne 14, 3) := dk_154 0 14 (dk_at dksX18_is_2 0 rfl rfl)
theorem dX18_is_48 : decode cX18_is 48 = .ok (.aload_n 0, 1) := dk_42 (dk_at dksX18_is_2 3 rfl rfl)
theorem dX18_is_49 : decode cX18_is 49 = .ok (.getfield 17, 3) := dk_180 0 17 (dk_at dksX18_is_2 4 rfl rfl)
theorem dX18_is_52 : decode cX18_is 52 = .ok (.aload_n 1, 1) := dk_43 (dk_at dksX18_is_2 7 rfl rfl)
theorem dX18_is_53 : decode cX18_is 53 = .ok (.invokevirtual 20, 3) := dk_182 0 20 (dk_at dksX18_is_2 8 rfl rfl)
theorem dX18_is_56 : decode cX18_is 56 = .ok (.ifCond .eq 7, 3) := dk_153 0 7 (dk_at dksX18_is_2 11 rfl rfl)
theorem dX18_is_59 : decode cX18_is 59 = .ok (.iconst 1, 1) := dk_4 (dk_at dksX18_is_2 14 rfl rfl)
theorem dX18_is_60 : decode cX18_is 60 = .ok (.goto 4, 3) := dk_167 0 4 (dk_at dksX18_is_2 15 rfl rfl)
theorem dX18_is_63 : decode cX18_is 63 = .ok (.iconst 0, 1) := dk_3 (dk_at dksX18_is_2 18 rfl rfl)
theorem dX18_is_64 : decode cX18_is 64 = .ok (.ireturn, 1) := dk_172 (dk_at dksX18_is_2 19 rfl rfl)
theorem q159 : (Jvm.Cond.initialized "StoneYear$Both") ∈ lw_all := lw_g (lw_at lw_m1 31 rfl) rfl
theorem q750 : (Jvm.Cond.selects "StoneYear$Both" ({ cls := "java/lang/Object", name := "getClass", desc := "()Ljava/lang/Class;" } : Jvm.MethodName) ({ cls := "java/lang/Object", name := "getClass", desc := "()Ljava/lang/Class;" } : Jvm.MethodName)) ∈ lw_all := lw_g (lw_at lw_m3 142 rfl) rfl
theorem q938 : (Jvm.Cond.instantiable "StoneYear$Both" (3 : Nat)) ∈ lw_all := lw_g (lw_at lw_m4 90 rfl) rfl
theorem q940 : (Jvm.Cond.instanceMethod ({ cls := "StoneYear$Both", name := "<init>", desc := "(ZLStoneYear$Fact;LStoneYear$Fact;)V" } : Jvm.MethodName)) ∈ lw_all := lw_g (lw_at lw_m4 92 rfl) rfl
theorem q941 : (Jvm.Cond.code ({ cls := "StoneYear$Both", name := "<init>", desc := "(ZLStoneYear$Fact;LStoneYear$Fact;)V" } : Jvm.MethodName) prog_3_method_1_code (4 : Nat) (Option.none : Option Jvm.ClassFile.FieldType)) ∈ lw_all := lw_g (lw_at lw_m4 93 rfl) rfl
theorem q942 : (Jvm.Cond.methodLinkNest "StoneYear$Both" (1 : Nat) ({ cls := "StoneYear$Fact", name := "<init>", desc := "()V" } : Jvm.MethodName) "StoneYear") ∈ lw_tbl := lw_at lw_m4 94 rfl
theorem q943 : (Jvm.Cond.fieldLink "StoneYear$Both" (7 : Nat) "StoneYear$Both" "isAnd" "Z") ∈ lw_all := lw_g (lw_at lw_m4 95 rfl) rfl
theorem q944 : (Jvm.Cond.fieldLink "StoneYear$Both" (13 : Nat) "StoneYear$Both" "one" "LStoneYear$Fact;") ∈ lw_all := lw_g (lw_at lw_m4 96 rfl) rfl
theorem q945 : (Jvm.Cond.fieldLink "StoneYear$Both" (17 : Nat) "StoneYear$Both" "two" "LStoneYear$Fact;") ∈ lw_all := lw_g (lw_at lw_m4 97 rfl) rfl
theorem q946 : (Jvm.Cond.laysFinal "StoneYear$Both" "StoneYear$Both" "isAnd" "Z") ∈ lw_all := lw_g (lw_at lw_m4 98 rfl) rfl
theorem q947 : (Jvm.Cond.soleField "StoneYear$Both" "isAnd") ∈ lw_all := lw_g (lw_at lw_m4 99 rfl) rfl
theorem q948 : (Jvm.Cond.laysFinal "StoneYear$Both" "StoneYear$Both" "one" "LStoneYear$Fact;") ∈ lw_all := lw_g (lw_at lw_m4 100 rfl) rfl
theorem q949 : (Jvm.Cond.soleField "StoneYear$Both" "one") ∈ lw_all := lw_g (lw_at lw_m4 101 rfl) rfl
theorem q950 : (Jvm.Cond.laysFinal "StoneYear$Both" "StoneYear$Both" "two" "LStoneYear$Fact;") ∈ lw_all := lw_g (lw_at lw_m4 102 rfl) rfl
theorem q951 : (Jvm.Cond.soleField "StoneYear$Both" "two") ∈ lw_all := lw_g (lw_at lw_m4 103 rfl) rfl
theorem q952 : (Jvm.Cond.superclass "StoneYear$Both" "StoneYear$Fact") ∈ lw_all := lw_g (lw_at lw_m4 104 rfl) rfl
theorem q1073 : (Jvm.Cond.selects "StoneYear$Both" ({ cls := "StoneYear$Fact", name := "is", desc := "(LStoneYear$Going;)Z" } : Jvm.MethodName) ({ cls := "StoneYear$Both", name := "is", desc := "(LStoneYear$Going;)Z" } : Jvm.MethodName)) ∈ lw_all := lw_g (lw_at lw_m4 225 rfl) rfl
theorem q1074 : (Jvm.Cond.instanceMethod ({ cls := "StoneYear$Both", name := "is", desc := "(LStoneYear$Going;)Z" } : Jvm.MethodName)) ∈ lw_all := lw_g (lw_at lw_m4 226 rfl) rfl
theorem q1075 : (Jvm.Cond.code ({ cls := "StoneYear$Both", name := "is", desc := "(LStoneYear$Going;)Z" } : Jvm.MethodName) prog_3_method_2_code (2 : Nat) (Option.some Jvm.ClassFile.FieldType.boolean)) ∈ lw_all := lw_g (lw_at lw_m4 227 rfl) rfl
theorem q1076 : (Jvm.Cond.methodLink "StoneYear$Both" (20 : Nat) ({ cls := "StoneYear$Fact", name := "is", desc := "(LStoneYear$Going;)Z" } : Jvm.MethodName)) ∈ lw_all := lw_g (lw_at lw_m4 228 rfl) rfl
theorem q2232 : (Jvm.Cond.castable "StoneYear$Both" "StoneYear$Fact") ∈ lw_tbl := lw_at lw_m9 184 rfl
theorem q2251 : (Jvm.Cond.castable "StoneYear$Both" "java/lang/Object") ∈ lw_tbl := lw_at lw_m9 203 rfl
theorem in_X18 : ∀ w ∈ wsX180, w ∈ lw_all := lw_in wsX180 [946, 948, 950] (by decide +kernel) (by decide +kernel)
