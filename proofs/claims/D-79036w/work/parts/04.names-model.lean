/-! EnclosureRefereeModel -/
set_option maxRecDepth 100000
def RX6 : String := "EnclosureRefereeModel"
def TX6 : u_T := fun k => match k with
  | 0 => ("EnclosureRefereeModel", "thrown", "I", false)
  | 1 => ("EnclosureRefereeModel", "wide", "I", false)
  | 2 => ("EnclosureRefereeModel", "high", "I", false)
  | 3 => ("EnclosureRefereeModel", "rule", "I", false)
  | 4 => ("EnclosureRefereeModel", "bonus", "[I", true)
  | 5 => ("EnclosureRefereeModel", "v", "[I", true)
  | 6 => ("EnclosureRefereeModel", "first", "[I", true)
  | 7 => ("EnclosureRefereeModel", "second", "[I", true)
  | 8 => ("EnclosureRefereeModel", "past", "[I", true)
  | 9 => ("EnclosureRefereeModel", "info", "[I", true)
  | 10 => ("EnclosureRefereeModel", "waveCells", "[I", true)
  | 11 => ("EnclosureRefereeModel", "savedRow", "[I", true)
  | 12 => ("EnclosureRefereeModel", "savedPast", "[I", true)
  | 13 => ("EnclosureRefereeModel", "savedInfo", "[I", true)
  | 14 => ("EnclosureRefereeModel", "savedWaves", "[I", true)
  | 15 => ("EnclosureRefereeModel", "savedBonus", "[I", true)
  | 16 => ("EnclosureRefereeModel", "savedWide", "I", false)
  | 17 => ("EnclosureRefereeModel", "savedHigh", "I", false)
  | 18 => ("EnclosureRefereeModel", "savedRule", "I", false)
  | 19 => ("EnclosureRefereeModel", "isSaved", "Z", false)
  | 20 => ("EnclosureRefereeModel", "enclosed", "[I", true)
  | 21 => ("EnclosureRefereeModel", "changedBy", "[I", true)
  | 22 => ("EnclosureRefereeModel", "clashed", "I", false)
  | 23 => ("EnclosureRefereeModel", "waved", "I", false)
  | 24 => ("EnclosureRefereeModel", "changed", "I", false)
  | 25 => ("EnclosureRefereeModel", "code", "[I", true)
  | 26 => ("EnclosureRefereeModel", "detail", "[I", true)
  | 27 => ("EnclosureRefereeModel", "levelN", "I", false)
  | 28 => ("EnclosureRefereeModel", "text", "[C", true)
  | 29 => ("EnclosureRefereeModel", "textN", "I", false)
  | 30 => ("EnclosureRefereeModel", "at", "I", false)
  | 31 => ("EnclosureRefereeModel", "read", "I", false)
  | _ => ("EnclosureRefereeModel", "readToo", "I", false)
def tyX6 : Nat → FieldType := fun k => match k with
  | 0 => .int
  | 1 => .int
  | 2 => .int
  | 3 => .int
  | 4 => .array .int
  | 5 => .array .int
  | 6 => .array .int
  | 7 => .array .int
  | 8 => .array .int
  | 9 => .array .int
  | 10 => .array .int
  | 11 => .array .int
  | 12 => .array .int
  | 13 => .array .int
  | 14 => .array .int
  | 15 => .array .int
  | 16 => .int
  | 17 => .int
  | 18 => .int
  | 19 => .boolean
  | 20 => .array .int
  | 21 => .array .int
  | 22 => .int
  | 23 => .int
  | 24 => .int
  | 25 => .array .int
  | 26 => .array .int
  | 27 => .int
  | 28 => .array .char
  | 29 => .int
  | 30 => .int
  | 31 => .int
  | _ => .int
abbrev wsX60 : List Cond := u_ws RX6 TX6 33
set_option maxRecDepth 100000 in
theorem nmX6 : ∀ a, a < 33 → ∀ b, b < 33 → a ≠ b → (TX6 a).2.1 ≠ (TX6 b).2.1 := by decide +kernel
set_option maxRecDepth 100000 in
theorem tyX6_ok : ∀ k, k < 33 → parseFieldDescriptor (TX6 k).2.2.1 = some (tyX6 k) := by decide +kernel
abbrev cX6_init : ByteArray := prog_14_method_1_code
def yX6_init : MethodName := ⟨RX6, "<init>", "()V"⟩
def dkwX6_init_7 : List UInt8 := [182, 0, 69, 177]
abbrev dktX6_init_7 : List UInt8 := dkwX6_init_7 ++ []
def dkwX6_init_6 : List UInt8 := [188, 10, 181, 0, 59, 42, 7, 188, 10, 181, 0, 62, 42, 16, 80, 188, 5, 181, 0, 65, 42, 3]
abbrev dktX6_init_6 : List UInt8 := dkwX6_init_6 ++ dktX6_init_7
def dkwX6_init_5 : List UInt8 := [188, 10, 181, 0, 50, 42, 16, 98, 188, 10, 181, 0, 53, 42, 16, 8, 188, 10, 181, 0, 56, 42, 7]
abbrev dktX6_init_5 : List UInt8 := dkwX6_init_5 ++ dktX6_init_6
def dkwX6_init_4 : List UInt8 := [181, 0, 41, 42, 17, 1, 164, 188, 10, 181, 0, 44, 42, 17, 1, 224, 188, 10, 181, 0, 47, 42, 5]
abbrev dktX6_init_4 : List UInt8 := dkwX6_init_4 ++ dktX6_init_5
def dkwX6_init_3 : List UInt8 := [17, 1, 224, 188, 10, 181, 0, 35, 42, 17, 0, 155, 188, 10, 181, 0, 38, 42, 17, 36, 84, 188, 10]
abbrev dktX6_init_3 : List UInt8 := dkwX6_init_3 ++ dktX6_init_4
def dkwX6_init_2 : List UInt8 := [181, 0, 26, 42, 17, 36, 84, 188, 10, 181, 0, 29, 42, 17, 1, 164, 188, 10, 181, 0, 32, 42]
abbrev dktX6_init_2 : List UInt8 := dkwX6_init_2 ++ dktX6_init_3
def dkwX6_init_1 : List UInt8 := [17, 0, 155, 188, 10, 181, 0, 20, 42, 17, 0, 155, 188, 10, 181, 0, 23, 42, 17, 0, 155, 188, 10]
abbrev dktX6_init_1 : List UInt8 := dkwX6_init_1 ++ dktX6_init_2
def dkwX6_init_0 : List UInt8 := [42, 183, 0, 3, 42, 8, 181, 0, 9, 42, 8, 181, 0, 13, 42, 5, 188, 10, 181, 0, 16, 42]
abbrev dktX6_init_0 : List UInt8 := dkwX6_init_0 ++ dktX6_init_1
theorem dksX6_init_0 : cX6_init.data.toList.drop 0 = dktX6_init_0 := by decide +kernel
theorem dksX6_init_1 : cX6_init.data.toList.drop 22 = dktX6_init_1 := dk_seg dksX6_init_0 22 rfl rfl
theorem dksX6_init_2 : cX6_init.data.toList.drop 45 = dktX6_init_2 := dk_seg dksX6_init_1 23 rfl rfl
theorem dksX6_init_3 : cX6_init.data.toList.drop 67 = dktX6_init_3 := dk_seg dksX6_init_2 22 rfl rfl
theorem dksX6_init_4 : cX6_init.data.toList.drop 90 = dktX6_init_4 := dk_seg dksX6_init_3 23 rfl rfl
theorem dksX6_init_5 : cX6_init.data.toList.drop 113 = dktX6_init_5 := dk_seg dksX6_init_4 23 rfl rfl
theorem dksX6_init_6 : cX6_init.data.toList.drop 136 = dktX6_init_6 := dk_seg dksX6_init_5 23 rfl rfl
theorem dksX6_init_7 : cX6_init.data.toList.drop 158 = dktX6_init_7 := dk_seg dksX6_init_6 22 rfl rfl
theorem dX6_init_0 : decode cX6_init 0 = .ok (.aload_n 0, 1) := dk_42 (dk_at dksX6_init_0 0 rfl rfl)
theorem dX6_init_1 : decode cX6_init 1 = .ok (.invokespecial 3, 3) := dk_183 0 3 (dk_at dksX6_init_0 1 rfl rfl)
theorem dX6_init_4 : decode cX6_init 4 = .ok (.aload_n 0, 1) := dk_42 (dk_at dksX6_init_0 4 rfl rfl)
theorem dX6_init_5 : decode cX6_init 5 = .ok (.iconst 5, 1) := dk_8 (dk_at dksX6_init_0 5 rfl rfl)
theorem dX6_init_6 : decode cX6_init 6 = .ok (.putfield 9, 3) := dk_181 0 9 (dk_at dksX6_init_0 6 rfl rfl)
theorem dX6_init_9 : decode cX6_init 9 = .ok (.aload_n 0, 1) := dk_42 (dk_at dksX6_init_0 9 rfl rfl)
theorem dX6_init_10 : decode cX6_init 10 = .ok (.iconst 5, 1) := dk_8 (dk_at dksX6_init_0 10 rfl rfl)
theorem dX6_init_11 : decode cX6_init 11 = .ok (.putfield 13, 3) := dk_181 0 13 (dk_at dksX6_init_0 11 rfl rfl)
theorem dX6_init_14 : decode cX6_init 14 = .ok (.aload_n 0, 1) := dk_42 (dk_at dksX6_init_0 14 rfl rfl)
theorem dX6_init_15 : decode cX6_init 15 = .ok (.iconst 2, 1) := dk_5 (dk_at dksX6_init_0 15 rfl rfl)
theorem dX6_init_16 : decode cX6_init 16 = .ok (.newarray .int, 2) := dk_188_10 (dk_at dksX6_init_0 16 rfl rfl)
theorem dX6_init_18 : decode cX6_init 18 = .ok (.putfield 16, 3) := dk_181 0 16 (dk_at dksX6_init_0 18 rfl rfl)
theorem dX6_init_21 : decode cX6_init 21 = .ok (.aload_n 0, 1) := dk_42 (dk_at dksX6_init_0 21 rfl rfl)
theorem dX6_init_22 : decode cX6_init 22 = .ok (.sipush 155, 3) := dk_17 0 155 (dk_at dksX6_init_1 0 rfl rfl)
theorem dX6_init_25 : decode cX6_init 25 = .ok (.newarray .int, 2) := dk_188_10 (dk_at dksX6_init_1 3 rfl rfl)
theorem dX6_init_27 : decode cX6_init 27 = .ok (.putfield 20, 3) := dk_181 0 20 (dk_at dksX6_init_1 5 rfl rfl)
theorem dX6_init_30 : decode cX6_init 30 = .ok (.aload_n 0, 1) := dk_42 (dk_at dksX6_init_1 8 rfl rfl)
theorem dX6_init_31 : decode cX6_init 31 = .ok (.sipush 155, 3) := dk_17 0 155 (dk_at dksX6_init_1 9 rfl rfl)
theorem dX6_init_34 : decode cX6_init 34 = .ok (.newarray .int, 2) := dk_188_10 (dk_at dksX6_init_1 12 rfl rfl)
theorem dX6_init_36 : decode cX6_init 36 = .ok (.putfield 23, 3) := dk_181 0 23 (dk_at dksX6_init_1 14 rfl rfl)
theorem dX6_init_39 : decode cX6_init 39 = .ok (.aload_n 0, 1) := dk_42 (dk_at dksX6_init_1 17 rfl rfl)
theorem dX6_init_40 : decode cX6_init 40 = .ok (.sipush 155, 3) := dk_17 0 155 (dk_at dksX6_init_1 18 rfl rfl)
theorem dX6_init_43 : decode cX6_init 43 = .ok (.newarray .int, 2) := dk_188_10 (dk_at dksX6_init_1 21 rfl rfl)
theorem dX6_init_45 : decode cX6_init 45 = .ok (.putfield 26, 3) := dk_181 0 26 (dk_at dksX6_init_2 0 rfl rfl)
theorem dX6_init_48 : decode cX6_init 48 = .ok (.aload_n 0, 1) := dk_42 (dk_at dksX6_init_2 3 rfl rfl)
theorem dX6_init_49 : decode cX6_init 49 = .ok (.sipush 9300, 3) := dk_17 36 84 (dk_at dksX6_init_2 4 rfl rfl)
theorem dX6_init_52 : decode cX6_init 52 = .ok (.newarray .int, 2) := dk_188_10 (dk_at dksX6_init_2 7 rfl rfl)
theorem dX6_init_54 : decode cX6_init 54 = .ok (.putfield 29, 3) := dk_181 0 29 (dk_at dksX6_init_2 9 rfl rfl)
theorem dX6_init_57 : decode cX6_init 57 = .ok (.aload_n 0, 1) := dk_42 (dk_at dksX6_init_2 12 rfl rfl)
theorem dX6_init_58 : decode cX6_init 58 = .ok (.sipush 420, 3) := dk_17 1 164 (dk_at dksX6_init_2 13 rfl rfl)
theorem dX6_init_61 : decode cX6_init 61 = .ok (.newarray .int, 2) := dk_188_10 (dk_at dksX6_init_2 16 rfl rfl)
theorem dX6_init_63 : decode cX6_init 63 = .ok (.putfield 32, 3) := dk_181 0 32 (dk_at dksX6_init_2 18 rfl rfl)
theorem dX6_init_66 : decode cX6_init 66 = .ok (.aload_n 0, 1) := dk_42 (dk_at dksX6_init_2 21 rfl rfl)
theorem dX6_init_67 : decode cX6_init 67 = .ok (.sipush 480, 3) := dk_17 1 224 (dk_at dksX6_init_3 0 rfl rfl)
theorem dX6_init_70 : decode cX6_init 70 = .ok (.newarray .int, 2) := dk_188_10 (dk_at dksX6_init_3 3 rfl rfl)
theorem dX6_init_72 : decode cX6_init 72 = .ok (.putfield 35, 3) := dk_181 0 35 (dk_at dksX6_init_3 5 rfl rfl)
theorem dX6_init_75 : decode cX6_init 75 = .ok (.aload_n 0, 1) := dk_42 (dk_at dksX6_init_3 8 rfl rfl)
theorem dX6_init_76 : decode cX6_init 76 = .ok (.sipush 155, 3) := dk_17 0 155 (dk_at dksX6_init_3 9 rfl rfl)
theorem dX6_init_79 : decode cX6_init 79 = .ok (.newarray .int, 2) := dk_188_10 (dk_at dksX6_init_3 12 rfl rfl)
theorem dX6_init_81 : decode cX6_init 81 = .ok (.putfield 38, 3) := dk_181 0 38 (dk_at dksX6_init_3 14 rfl rfl)
theorem dX6_init_84 : decode cX6_init 84 = .ok (.aload_n 0, 1) := dk_42 (dk_at dksX6_init_3 17 rfl rfl)
theorem dX6_init_85 : decode cX6_init 85 = .ok (.sipush 9300, 3) := dk_17 36 84 (dk_at dksX6_init_3 18 rfl rfl)
theorem dX6_init_88 : decode cX6_init 88 = .ok (.newarray .int, 2) := dk_188_10 (dk_at dksX6_init_3 21 rfl rfl)
theorem dX6_init_90 : decode cX6_init 90 = .ok (.putfield 41, 3) := dk_181 0 41 (dk_at dksX6_init_4 0 rfl rfl)
theorem dX6_init_93 : decode cX6_init 93 = .ok (.aload_n 0, 1) := dk_42 (dk_at dksX6_init_4 3 rfl rfl)
theorem dX6_init_94 : decode cX6_init 94 = .ok (.sipush 420, 3) := dk_17 1 164 (dk_at dksX6_init_4 4 rfl rfl)
theorem dX6_init_97 : decode cX6_init 97 = .ok (.newarray .int, 2) := dk_188_10 (dk_at dksX6_init_4 7 rfl rfl)
theorem dX6_init_99 : decode cX6_init 99 = .ok (.putfield 44, 3) := dk_181 0 44 (dk_at dksX6_init_4 9 rfl rfl)
theorem dX6_init_102 : decode cX6_init 102 = .ok (.aload_n 0, 1) := dk_42 (dk_at dksX6_init_4 12 rfl rfl)
theorem dX6_init_103 : decode cX6_init 103 = .ok (.sipush 480, 3) := dk_17 1 224 (dk_at dksX6_init_4 13 rfl rfl)
theorem dX6_init_106 : decode cX6_init 106 = .ok (.newarray .int, 2) := dk_188_10 (dk_at dksX6_init_4 16 rfl rfl)
theorem dX6_init_108 : decode cX6_init 108 = .ok (.putfield 47, 3) := dk_181 0 47 (dk_at dksX6_init_4 18 rfl rfl)
theorem dX6_init_111 : decode cX6_init 111 = .ok (.aload_n 0, 1) := dk_42 (dk_at dksX6_init_4 21 rfl rfl)
theorem dX6_init_112 : decode cX6_init 112 = .ok (.iconst 2, 1) := dk_5 (dk_at dksX6_init_4 22 rfl rfl)
theorem dX6_init_113 : decode cX6_init 113 = .ok (.newarray .int, 2) := dk_188_10 (dk_at dksX6_init_5 0 rfl rfl)
theorem dX6_init_115 : decode cX6_init 115 = .ok (.putfield 50, 3) := dk_181 0 50 (dk_at dksX6_init_5 2 rfl rfl)
theorem dX6_init_118 : decode cX6_init 118 = .ok (.aload_n 0, 1) := dk_42 (dk_at dksX6_init_5 5 rfl rfl)
theorem dX6_init_119 : decode cX6_init 119 = .ok (.bipush 98, 2) := dk_16 98 (dk_at dksX6_init_5 6 rfl rfl)
theorem dX6_init_121 : decode cX6_init 121 = .ok (.newarray .int, 2) := dk_188_10 (dk_at dksX6_init_5 8 rfl rfl)
theorem dX6_init_123 : decode cX6_init 123 = .ok (.putfield 53, 3) := dk_181 0 53 (dk_at dksX6_init_5 10 rfl rfl)
theorem dX6_init_126 : decode cX6_init 126 = .ok (.aload_n 0, 1) := dk_42 (dk_at dksX6_init_5 13 rfl rfl)
theorem dX6_init_127 : decode cX6_init 127 = .ok (.bipush 8, 2) := dk_16 8 (dk_at dksX6_init_5 14 rfl rfl)
theorem dX6_init_129 : decode cX6_init 129 = .ok (.newarray .int, 2) := dk_188_10 (dk_at dksX6_init_5 16 rfl rfl)
theorem dX6_init_131 : decode cX6_init 131 = .ok (.putfield 56, 3) := dk_181 0 56 (dk_at dksX6_init_5 18 rfl rfl)
theorem dX6_init_134 : decode cX6_init 134 = .ok (.aload_n 0, 1) := dk_42 (dk_at dksX6_init_5 21 rfl rfl)
theorem dX6_init_135 : decode cX6_init 135 = .ok (.iconst 4, 1) := dk_7 (dk_at dksX6_init_5 22 rfl rfl)
theorem dX6_init_136 : decode cX6_init 136 = .ok (.newarray .int, 2) := dk_188_10 (dk_at dksX6_init_6 0 rfl rfl)
theorem dX6_init_138 : decode cX6_init 138 = .ok (.putfield 59, 3) := dk_181 0 59 (dk_at dksX6_init_6 2 rfl rfl)
theorem dX6_init_141 : decode cX6_init 141 = .ok (.aload_n 0, 1) := dk_42 (dk_at dksX6_init_6 5 rfl rfl)
theorem dX6_init_142 : decode cX6_init 142 = .ok (.iconst 4, 1) := dk_7 (dk_at dksX6_init_6 6 rfl rfl)
theorem dX6_init_143 : decode cX6_init 143 = .ok (.newarray .int, 2) := dk_188_10 (dk_at dksX6_init_6 7 rfl rfl)
theorem dX6_init_145 : decode cX6_init 145 = .ok (.putfield 62, 3) := dk_181 0 62 (dk_at dksX6_init_6 9 rfl rfl)
theorem dX6_init_148 : decode cX6_init 148 = .ok (.aload_n 0, 1) := dk_42 (dk_at dksX6_init_6 12 rfl rfl)
theorem dX6_init_149 : decode cX6_init 149 = .ok (.bipush 80, 2) := dk_16 80 (dk_at dksX6_init_6 13 rfl rfl)
theorem dX6_init_151 : decode cX6_init 151 = .ok (.newarray .char, 2) := dk_188_5 (dk_at dksX6_init_6 15 rfl rfl)
theorem dX6_init_153 : decode cX6_init 153 = .ok (.putfield 65, 3) := dk_181 0 65 (dk_at dksX6_init_6 17 rfl rfl)
theorem dX6_init_156 : decode cX6_init 156 = .ok (.aload_n 0, 1) := dk_42 (dk_at dksX6_init_6 20 rfl rfl)
theorem dX6_init_157 : decode cX6_init 157 = .ok (.iconst 0, 1) := dk_3 (dk_at dksX6_init_6 21 rfl rfl)
theorem dX6_init_158 : decode cX6_init 158 = .ok (.invokevirtual 69, 3) := dk_182 0 69 (dk_at dksX6_init_7 0 rfl rfl)
theorem dX6_init_161 : decode cX6_init 161 = .ok (.return_, 1) := dk_177 (dk_at dksX6_init_7 3 rfl rfl)
abbrev cX6_begins : ByteArray := prog_14_method_8_code
def yX6_begins : MethodName := ⟨RX6, "begins", "(I)V"⟩
def dkwX6_begins_4 : List UInt8 := [180, 0, 9, 104, 21, 4, 96, 5, 79, 132, 2, 1, 167, 255, 192, 177]
abbrev dktX6_begins_4 : List UInt8 := dkwX6_begins_4 ++ []
def dkwX6_begins_3 : List UInt8 := [6, 160, 0, 7, 4, 167, 0, 9, 42, 180, 0, 9, 5, 100, 54, 4, 42, 180, 0, 20, 29, 42]
abbrev dktX6_begins_3 : List UInt8 := dkwX6_begins_3 ++ dktX6_begins_4
def dkwX6_begins_2 : List UInt8 := [153, 0, 8, 28, 5, 160, 0, 7, 4, 167, 0, 9, 42, 180, 0, 13, 5, 100, 62, 28, 153, 0, 8, 28]
abbrev dktX6_begins_2 : List UInt8 := dkwX6_begins_2 ++ dktX6_begins_3
def dkwX6_begins_1 : List UInt8 := [162, 0, 7, 2, 167, 0, 4, 3, 79, 132, 2, 1, 167, 255, 222, 3, 61, 28, 27, 162, 0, 65, 28]
abbrev dktX6_begins_1 : List UInt8 := dkwX6_begins_1 ++ dktX6_begins_2
def dkwX6_begins_0 : List UInt8 := [3, 61, 28, 17, 0, 155, 162, 0, 33, 42, 180, 0, 20, 28, 28, 16, 49, 161, 0, 14, 28, 17, 0, 147]
abbrev dktX6_begins_0 : List UInt8 := dkwX6_begins_0 ++ dktX6_begins_1
theorem dksX6_begins_0 : cX6_begins.data.toList.drop 0 = dktX6_begins_0 := by decide +kernel
theorem dksX6_begins_1 : cX6_begins.data.toList.drop 24 = dktX6_begins_1 := dk_seg dksX6_begins_0 24 rfl rfl
theorem dksX6_begins_2 : cX6_begins.data.toList.drop 47 = dktX6_begins_2 := dk_seg dksX6_begins_1 23 rfl rfl
theorem dksX6_begins_3 : cX6_begins.data.toList.drop 71 = dktX6_begins_3 := dk_seg dksX6_begins_2 24 rfl rfl
theorem dksX6_begins_4 : cX6_begins.data.toList.drop 93 = dktX6_begins_4 := dk_seg dksX6_begins_3 22 rfl rfl
theorem dX6_begins_0 : decode cX6_begins 0 = .ok (.iconst 0, 1) := dk_3 (dk_at dksX6_begins_0 0 rfl rfl)
theorem dX6_begins_1 : decode cX6_begins 1 = .ok (.istore_n 2, 1) := dk_61 (dk_at dksX6_begins_0 1 rfl rfl)
theorem dX6_begins_2 : decode cX6_begins 2 = .ok (.iload_n 2, 1) := dk_28 (dk_at dksX6_begins_0 2 rfl rfl)
theorem dX6_begins_3 : decode cX6_begins 3 = .ok (.sipush 155, 3) := dk_17 0 155 (dk_at dksX6_begins_0 3 rfl rfl)
theorem dX6_begins_6 : decode cX6_begins 6 = .ok (.if_icmp .ge 33, 3) := dk_162 0 33 (dk_at dksX6_begins_0 6 rfl rfl)
theorem dX6_begins_9 : decode cX6_begins 9 = .ok (.aload_n 0, 1) := dk_42 (dk_at dksX6_begins_0 9 rfl rfl)
theorem dX6_begins_10 : decode cX6_begins 10 = .ok (.getfield 20, 3) := dk_180 0 20 (dk_at dksX6_begins_0 10 rfl rfl)
theorem dX6_begins_13 : decode cX6_begins 13 = .ok (.iload_n 2, 1) := dk_28 (dk_at dksX6_begins_0 13 rfl rfl)
theorem dX6_begins_14 : decode cX6_begins 14 = .ok (.iload_n 2, 1) := dk_28 (dk_at dksX6_begins_0 14 rfl rfl)
theorem dX6_begins_15 : decode cX6_begins 15 = .ok (.bipush 49, 2) := dk_16 49 (dk_at dksX6_begins_0 15 rfl rfl)
theorem dX6_begins_17 : decode cX6_begins 17 = .ok (.if_icmp .lt 14, 3) := dk_161 0 14 (dk_at dksX6_begins_0 17 rfl rfl)
theorem dX6_begins_20 : decode cX6_begins 20 = .ok (.iload_n 2, 1) := dk_28 (dk_at dksX6_begins_0 20 rfl rfl)
theorem dX6_begins_21 : decode cX6_begins 21 = .ok (.sipush 147, 3) := dk_17 0 147 (dk_at dksX6_begins_0 21 rfl rfl)
theorem dX6_begins_24 : decode cX6_begins 24 = .ok (.if_icmp .ge 7, 3) := dk_162 0 7 (dk_at dksX6_begins_1 0 rfl rfl)
theorem dX6_begins_27 : decode cX6_begins 27 = .ok (.iconst (-1), 1) := dk_2 (dk_at dksX6_begins_1 3 rfl rfl)
theorem dX6_begins_28 : decode cX6_begins 28 = .ok (.goto 4, 3) := dk_167 0 4 (dk_at dksX6_begins_1 4 rfl rfl)
theorem dX6_begins_31 : decode cX6_begins 31 = .ok (.iconst 0, 1) := dk_3 (dk_at dksX6_begins_1 7 rfl rfl)
theorem dX6_begins_32 : decode cX6_begins 32 = .ok (.iastore, 1) := dk_79 (dk_at dksX6_begins_1 8 rfl rfl)
theorem dX6_begins_33 : decode cX6_begins 33 = .ok (.iinc 2 1, 3) := dk_132 2 1 (dk_at dksX6_begins_1 9 rfl rfl)
theorem dX6_begins_36 : decode cX6_begins 36 = .ok (.goto (-34), 3) := dk_167 255 222 (dk_at dksX6_begins_1 12 rfl rfl)
theorem dX6_begins_39 : decode cX6_begins 39 = .ok (.iconst 0, 1) := dk_3 (dk_at dksX6_begins_1 15 rfl rfl)
theorem dX6_begins_40 : decode cX6_begins 40 = .ok (.istore_n 2, 1) := dk_61 (dk_at dksX6_begins_1 16 rfl rfl)
theorem dX6_begins_41 : decode cX6_begins 41 = .ok (.iload_n 2, 1) := dk_28 (dk_at dksX6_begins_1 17 rfl rfl)
theorem dX6_begins_42 : decode cX6_begins 42 = .ok (.iload_n 1, 1) := dk_27 (dk_at dksX6_begins_1 18 rfl rfl)
theorem dX6_begins_43 : decode cX6_begins 43 = .ok (.if_icmp .ge 65, 3) := dk_162 0 65 (dk_at dksX6_begins_1 19 rfl rfl)
theorem dX6_begins_46 : decode cX6_begins 46 = .ok (.iload_n 2, 1) := dk_28 (dk_at dksX6_begins_1 22 rfl rfl)
theorem dX6_begins_47 : decode cX6_begins 47 = .ok (.ifCond .eq 8, 3) := dk_153 0 8 (dk_at dksX6_begins_2 0 rfl rfl)
theorem dX6_begins_50 : decode cX6_begins 50 = .ok (.iload_n 2, 1) := dk_28 (dk_at dksX6_begins_2 3 rfl rfl)
theorem dX6_begins_51 : decode cX6_begins 51 = .ok (.iconst 2, 1) := dk_5 (dk_at dksX6_begins_2 4 rfl rfl)
theorem dX6_begins_52 : decode cX6_begins 52 = .ok (.if_icmp .ne 7, 3) := dk_160 0 7 (dk_at dksX6_begins_2 5 rfl rfl)
theorem dX6_begins_55 : decode cX6_begins 55 = .ok (.iconst 1, 1) := dk_4 (dk_at dksX6_begins_2 8 rfl rfl)
theorem dX6_begins_56 : decode cX6_begins 56 = .ok (.goto 9, 3) := dk_167 0 9 (dk_at dksX6_begins_2 9 rfl rfl)
theorem dX6_begins_59 : decode cX6_begins 59 = .ok (.aload_n 0, 1) := dk_42 (dk_at dksX6_begins_2 12 rfl rfl)
theorem dX6_begins_60 : decode cX6_begins 60 = .ok (.getfield 13, 3) := dk_180 0 13 (dk_at dksX6_begins_2 13 rfl rfl)
theorem dX6_begins_63 : decode cX6_begins 63 = .ok (.iconst 2, 1) := dk_5 (dk_at dksX6_begins_2 16 rfl rfl)
theorem dX6_begins_64 : decode cX6_begins 64 = .ok (.isub, 1) := dk_100 (dk_at dksX6_begins_2 17 rfl rfl)
theorem dX6_begins_65 : decode cX6_begins 65 = .ok (.istore_n 3, 1) := dk_62 (dk_at dksX6_begins_2 18 rfl rfl)
theorem dX6_begins_66 : decode cX6_begins 66 = .ok (.iload_n 2, 1) := dk_28 (dk_at dksX6_begins_2 19 rfl rfl)
theorem dX6_begins_67 : decode cX6_begins 67 = .ok (.ifCond .eq 8, 3) := dk_153 0 8 (dk_at dksX6_begins_2 20 rfl rfl)
theorem dX6_begins_70 : decode cX6_begins 70 = .ok (.iload_n 2, 1) := dk_28 (dk_at dksX6_begins_2 23 rfl rfl)
theorem dX6_begins_71 : decode cX6_begins 71 = .ok (.iconst 3, 1) := dk_6 (dk_at dksX6_begins_3 0 rfl rfl)
theorem dX6_begins_72 : decode cX6_begins 72 = .ok (.if_icmp .ne 7, 3) := dk_160 0 7 (dk_at dksX6_begins_3 1 rfl rfl)
theorem dX6_begins_75 : decode cX6_begins 75 = .ok (.iconst 1, 1) := dk_4 (dk_at dksX6_begins_3 4 rfl rfl)
theorem dX6_begins_76 : decode cX6_begins 76 = .ok (.goto 9, 3) := dk_167 0 9 (dk_at dksX6_begins_3 5 rfl rfl)
theorem dX6_begins_79 : decode cX6_begins 79 = .ok (.aload_n 0, 1) := dk_42 (dk_at dksX6_begins_3 8 rfl rfl)
theorem dX6_begins_80 : decode cX6_begins 80 = .ok (.getfield 9, 3) := dk_180 0 9 (dk_at dksX6_begins_3 9 rfl rfl)
theorem dX6_begins_83 : decode cX6_begins 83 = .ok (.iconst 2, 1) := dk_5 (dk_at dksX6_begins_3 12 rfl rfl)
theorem dX6_begins_84 : decode cX6_begins 84 = .ok (.isub, 1) := dk_100 (dk_at dksX6_begins_3 13 rfl rfl)
theorem dX6_begins_85 : decode cX6_begins 85 = .ok (.istore 4, 2) := dk_54 4 (dk_at dksX6_begins_3 14 rfl rfl)
theorem dX6_begins_87 : decode cX6_begins 87 = .ok (.aload_n 0, 1) := dk_42 (dk_at dksX6_begins_3 16 rfl rfl)
theorem dX6_begins_88 : decode cX6_begins 88 = .ok (.getfield 20, 3) := dk_180 0 20 (dk_at dksX6_begins_3 17 rfl rfl)
theorem dX6_begins_91 : decode cX6_begins 91 = .ok (.iload_n 3, 1) := dk_29 (dk_at dksX6_begins_3 20 rfl rfl)
theorem dX6_begins_92 : decode cX6_begins 92 = .ok (.aload_n 0, 1) := dk_42 (dk_at dksX6_begins_3 21 rfl rfl)
theorem dX6_begins_93 : decode cX6_begins 93 = .ok (.getfield 9, 3) := dk_180 0 9 (dk_at dksX6_begins_4 0 rfl rfl)
theorem dX6_begins_96 : decode cX6_begins 96 = .ok (.imul, 1) := dk_104 (dk_at dksX6_begins_4 3 rfl rfl)
theorem dX6_begins_97 : decode cX6_begins 97 = .ok (.iload 4, 2) := dk_21 4 (dk_at dksX6_begins_4 4 rfl rfl)
theorem dX6_begins_99 : decode cX6_begins 99 = .ok (.iadd, 1) := dk_96 (dk_at dksX6_begins_4 6 rfl rfl)
theorem dX6_begins_100 : decode cX6_begins 100 = .ok (.iconst 2, 1) := dk_5 (dk_at dksX6_begins_4 7 rfl rfl)
theorem dX6_begins_101 : decode cX6_begins 101 = .ok (.iastore, 1) := dk_79 (dk_at dksX6_begins_4 8 rfl rfl)
theorem dX6_begins_102 : decode cX6_begins 102 = .ok (.iinc 2 1, 3) := dk_132 2 1 (dk_at dksX6_begins_4 9 rfl rfl)
theorem dX6_begins_105 : decode cX6_begins 105 = .ok (.goto (-64), 3) := dk_167 255 192 (dk_at dksX6_begins_4 12 rfl rfl)
theorem dX6_begins_108 : decode cX6_begins 108 = .ok (.return_, 1) := dk_177 (dk_at dksX6_begins_4 15 rfl rfl)
abbrev cX6_thrown : ByteArray := prog_14_method_2_code
def yX6_thrown : MethodName := ⟨RX6, "thrown", "()I"⟩
theorem dX6_thrown_0 : decode cX6_thrown 0 = .ok (.aload_n 0, 1) := by decide +kernel
theorem dX6_thrown_1 : decode cX6_thrown 1 = .ok (.getfield 73, 3) := by decide +kernel
theorem dX6_thrown_4 : decode cX6_thrown 4 = .ok (.ireturn, 1) := by decide +kernel
abbrev cX6_start : ByteArray := prog_14_method_10_code
def yX6_start : MethodName := ⟨RX6, "start", "(III)I"⟩
def dkwX6_start_3 : List UInt8 := [42, 29, 182, 0, 69, 42, 3, 182, 0, 84, 172]
abbrev dktX6_start_3 : List UInt8 := dkwX6_start_3 ++ []
def dkwX6_start_2 : List UInt8 := [42, 27, 181, 0, 9, 42, 28, 181, 0, 13, 42, 180, 0, 16, 3, 3, 79, 42, 180, 0, 16, 4, 3, 79]
abbrev dktX6_start_2 : List UInt8 := dkwX6_start_2 ++ dktX6_start_3
def dkwX6_start_1 : List UInt8 := [184, 0, 80, 153, 0, 7, 3, 167, 0, 4, 4, 181, 0, 73, 42, 180, 0, 73, 4, 160, 0, 5, 3, 172]
abbrev dktX6_start_1 : List UInt8 := dkwX6_start_1 ++ dktX6_start_2
def dkwX6_start_0 : List UInt8 := [42, 27, 7, 16, 7, 184, 0, 80, 153, 0, 26, 28, 7, 16, 7, 184, 0, 80, 153, 0, 16, 29, 3, 7]
abbrev dktX6_start_0 : List UInt8 := dkwX6_start_0 ++ dktX6_start_1
theorem dksX6_start_0 : cX6_start.data.toList.drop 0 = dktX6_start_0 := by decide +kernel
theorem dksX6_start_1 : cX6_start.data.toList.drop 24 = dktX6_start_1 := dk_seg dksX6_start_0 24 rfl rfl
theorem dksX6_start_2 : cX6_start.data.toList.drop 48 = dktX6_start_2 := dk_seg dksX6_start_1 24 rfl rfl
theorem dksX6_start_3 : cX6_start.data.toList.drop 72 = dktX6_start_3 := dk_seg dksX6_start_2 24 rfl rfl
theorem dX6_start_0 : decode cX6_start 0 = .ok (.aload_n 0, 1) := dk_42 (dk_at dksX6_start_0 0 rfl rfl)
theorem dX6_start_1 : decode cX6_start 1 = .ok (.iload_n 1, 1) := dk_27 (dk_at dksX6_start_0 1 rfl rfl)
theorem dX6_start_2 : decode cX6_start 2 = .ok (.iconst 4, 1) := dk_7 (dk_at dksX6_start_0 2 rfl rfl)
theorem dX6_start_3 : decode cX6_start 3 = .ok (.bipush 7, 2) := dk_16 7 (dk_at dksX6_start_0 3 rfl rfl)
theorem dX6_start_5 : decode cX6_start 5 = .ok (.invokestatic 80, 3) := dk_184 0 80 (dk_at dksX6_start_0 5 rfl rfl)
theorem dX6_start_8 : decode cX6_start 8 = .ok (.ifCond .eq 26, 3) := dk_153 0 26 (dk_at dksX6_start_0 8 rfl rfl)
theorem dX6_start_11 : decode cX6_start 11 = .ok (.iload_n 2, 1) := dk_28 (dk_at dksX6_start_0 11 rfl rfl)
theorem dX6_start_12 : decode cX6_start 12 = .ok (.iconst 4, 1) := dk_7 (dk_at dksX6_start_0 12 rfl rfl)
theorem dX6_start_13 : decode cX6_start 13 = .ok (.bipush 7, 2) := dk_16 7 (dk_at dksX6_start_0 13 rfl rfl)
theorem dX6_start_15 : decode cX6_start 15 = .ok (.invokestatic 80, 3) := dk_184 0 80 (dk_at dksX6_start_0 15 rfl rfl)
theorem dX6_start_18 : decode cX6_start 18 = .ok (.ifCond .eq 16, 3) := dk_153 0 16 (dk_at dksX6_start_0 18 rfl rfl)
theorem dX6_start_21 : decode cX6_start 21 = .ok (.iload_n 3, 1) := dk_29 (dk_at dksX6_start_0 21 rfl rfl)
theorem dX6_start_22 : decode cX6_start 22 = .ok (.iconst 0, 1) := dk_3 (dk_at dksX6_start_0 22 rfl rfl)
theorem dX6_start_23 : decode cX6_start 23 = .ok (.iconst 4, 1) := dk_7 (dk_at dksX6_start_0 23 rfl rfl)
theorem dX6_start_24 : decode cX6_start 24 = .ok (.invokestatic 80, 3) := dk_184 0 80 (dk_at dksX6_start_1 0 rfl rfl)
theorem dX6_start_27 : decode cX6_start 27 = .ok (.ifCond .eq 7, 3) := dk_153 0 7 (dk_at dksX6_start_1 3 rfl rfl)
theorem dX6_start_30 : decode cX6_start 30 = .ok (.iconst 0, 1) := dk_3 (dk_at dksX6_start_1 6 rfl rfl)
theorem dX6_start_31 : decode cX6_start 31 = .ok (.goto 4, 3) := dk_167 0 4 (dk_at dksX6_start_1 7 rfl rfl)
theorem dX6_start_34 : decode cX6_start 34 = .ok (.iconst 1, 1) := dk_4 (dk_at dksX6_start_1 10 rfl rfl)
theorem dX6_start_35 : decode cX6_start 35 = .ok (.putfield 73, 3) := dk_181 0 73 (dk_at dksX6_start_1 11 rfl rfl)
theorem dX6_start_38 : decode cX6_start 38 = .ok (.aload_n 0, 1) := dk_42 (dk_at dksX6_start_1 14 rfl rfl)
theorem dX6_start_39 : decode cX6_start 39 = .ok (.getfield 73, 3) := dk_180 0 73 (dk_at dksX6_start_1 15 rfl rfl)
theorem dX6_start_42 : decode cX6_start 42 = .ok (.iconst 1, 1) := dk_4 (dk_at dksX6_start_1 18 rfl rfl)
theorem dX6_start_43 : decode cX6_start 43 = .ok (.if_icmp .ne 5, 3) := dk_160 0 5 (dk_at dksX6_start_1 19 rfl rfl)
theorem dX6_start_46 : decode cX6_start 46 = .ok (.iconst 0, 1) := dk_3 (dk_at dksX6_start_1 22 rfl rfl)
theorem dX6_start_47 : decode cX6_start 47 = .ok (.ireturn, 1) := dk_172 (dk_at dksX6_start_1 23 rfl rfl)
theorem dX6_start_48 : decode cX6_start 48 = .ok (.aload_n 0, 1) := dk_42 (dk_at dksX6_start_2 0 rfl rfl)
theorem dX6_start_49 : decode cX6_start 49 = .ok (.iload_n 1, 1) := dk_27 (dk_at dksX6_start_2 1 rfl rfl)
theorem dX6_start_50 : decode cX6_start 50 = .ok (.putfield 9, 3) := dk_181 0 9 (dk_at dksX6_start_2 2 rfl rfl)
theorem dX6_start_53 : decode cX6_start 53 = .ok (.aload_n 0, 1) := dk_42 (dk_at dksX6_start_2 5 rfl rfl)
theorem dX6_start_54 : decode cX6_start 54 = .ok (.iload_n 2, 1) := dk_28 (dk_at dksX6_start_2 6 rfl rfl)
theorem dX6_start_55 : decode cX6_start 55 = .ok (.putfield 13, 3) := dk_181 0 13 (dk_at dksX6_start_2 7 rfl rfl)
theorem dX6_start_58 : decode cX6_start 58 = .ok (.aload_n 0, 1) := dk_42 (dk_at dksX6_start_2 10 rfl rfl)
theorem dX6_start_59 : decode cX6_start 59 = .ok (.getfield 16, 3) := dk_180 0 16 (dk_at dksX6_start_2 11 rfl rfl)
theorem dX6_start_62 : decode cX6_start 62 = .ok (.iconst 0, 1) := dk_3 (dk_at dksX6_start_2 14 rfl rfl)
theorem dX6_start_63 : decode cX6_start 63 = .ok (.iconst 0, 1) := dk_3 (dk_at dksX6_start_2 15 rfl rfl)
theorem dX6_start_64 : decode cX6_start 64 = .ok (.iastore, 1) := dk_79 (dk_at dksX6_start_2 16 rfl rfl)
theorem dX6_start_65 : decode cX6_start 65 = .ok (.aload_n 0, 1) := dk_42 (dk_at dksX6_start_2 17 rfl rfl)
theorem dX6_start_66 : decode cX6_start 66 = .ok (.getfield 16, 3) := dk_180 0 16 (dk_at dksX6_start_2 18 rfl rfl)
theorem dX6_start_69 : decode cX6_start 69 = .ok (.iconst 1, 1) := dk_4 (dk_at dksX6_start_2 21 rfl rfl)
theorem dX6_start_70 : decode cX6_start 70 = .ok (.iconst 0, 1) := dk_3 (dk_at dksX6_start_2 22 rfl rfl)
theorem dX6_start_71 : decode cX6_start 71 = .ok (.iastore, 1) := dk_79 (dk_at dksX6_start_2 23 rfl rfl)
theorem dX6_start_72 : decode cX6_start 72 = .ok (.aload_n 0, 1) := dk_42 (dk_at dksX6_start_3 0 rfl rfl)
theorem dX6_start_73 : decode cX6_start 73 = .ok (.iload_n 3, 1) := dk_29 (dk_at dksX6_start_3 1 rfl rfl)
theorem dX6_start_74 : decode cX6_start 74 = .ok (.invokevirtual 69, 3) := dk_182 0 69 (dk_at dksX6_start_3 2 rfl rfl)
theorem dX6_start_77 : decode cX6_start 77 = .ok (.aload_n 0, 1) := dk_42 (dk_at dksX6_start_3 5 rfl rfl)
theorem dX6_start_78 : decode cX6_start 78 = .ok (.iconst 0, 1) := dk_3 (dk_at dksX6_start_3 6 rfl rfl)
theorem dX6_start_79 : decode cX6_start 79 = .ok (.invokevirtual 84, 3) := dk_182 0 84 (dk_at dksX6_start_3 7 rfl rfl)
theorem dX6_start_82 : decode cX6_start 82 = .ok (.ireturn, 1) := dk_172 (dk_at dksX6_start_3 10 rfl rfl)
abbrev cX6_isIn : ByteArray := prog_14_method_4_code
def yX6_isIn : MethodName := ⟨RX6, "isIn", "(III)Z"⟩
def dkwX6_isIn_0 : List UInt8 := [26, 27, 161, 0, 12, 26, 28, 163, 0, 7, 4, 167, 0, 4, 3, 172]
abbrev dktX6_isIn_0 : List UInt8 := dkwX6_isIn_0 ++ []
theorem dksX6_isIn_0 : cX6_isIn.data.toList.drop 0 = dktX6_isIn_0 := by decide +kernel
theorem dX6_isIn_0 : decode cX6_isIn 0 = .ok (.iload_n 0, 1) := dk_26 (dk_at dksX6_isIn_0 0 rfl rfl)
theorem dX6_isIn_1 : decode cX6_isIn 1 = .ok (.iload_n 1, 1) := dk_27 (dk_at dksX6_isIn_0 1 rfl rfl)
theorem dX6_isIn_2 : decode cX6_isIn 2 = .ok (.if_icmp .lt 12, 3) := dk_161 0 12 (dk_at dksX6_isIn_0 2 rfl rfl)
theorem dX6_isIn_5 : decode cX6_isIn 5 = .ok (.iload_n 0, 1) := dk_26 (dk_at dksX6_isIn_0 5 rfl rfl)
theorem dX6_isIn_6 : decode cX6_isIn 6 = .ok (.iload_n 2, 1) := dk_28 (dk_at dksX6_isIn_0 6 rfl rfl)
theorem dX6_isIn_7 : decode cX6_isIn 7 = .ok (.if_icmp .gt 7, 3) := dk_163 0 7 (dk_at dksX6_isIn_0 7 rfl rfl)
theorem dX6_isIn_10 : decode cX6_isIn 10 = .ok (.iconst 1, 1) := dk_4 (dk_at dksX6_isIn_0 10 rfl rfl)
theorem dX6_isIn_11 : decode cX6_isIn 11 = .ok (.goto 4, 3) := dk_167 0 4 (dk_at dksX6_isIn_0 11 rfl rfl)
theorem dX6_isIn_14 : decode cX6_isIn 14 = .ok (.iconst 0, 1) := dk_3 (dk_at dksX6_isIn_0 14 rfl rfl)
theorem dX6_isIn_15 : decode cX6_isIn 15 = .ok (.ireturn, 1) := dk_172 (dk_at dksX6_isIn_0 15 rfl rfl)
abbrev cX6_many : ByteArray := prog_14_method_9_code
def yX6_many : MethodName := ⟨RX6, "many", "(I)I"⟩
def dkwX6_many_1 : List UInt8 := [167, 0, 4, 3, 96, 61, 132, 3, 1, 167, 255, 227, 28, 172]
abbrev dktX6_many_1 : List UInt8 := dkwX6_many_1 ++ []
def dkwX6_many_0 : List UInt8 := [3, 61, 3, 62, 29, 42, 182, 0, 76, 162, 0, 27, 28, 42, 180, 0, 20, 29, 46, 27, 160, 0, 7, 4]
abbrev dktX6_many_0 : List UInt8 := dkwX6_many_0 ++ dktX6_many_1
theorem dksX6_many_0 : cX6_many.data.toList.drop 0 = dktX6_many_0 := by decide +kernel
theorem dksX6_many_1 : cX6_many.data.toList.drop 24 = dktX6_many_1 := dk_seg dksX6_many_0 24 rfl rfl
theorem dX6_many_0 : decode cX6_many 0 = .ok (.iconst 0, 1) := dk_3 (dk_at dksX6_many_0 0 rfl rfl)
theorem dX6_many_1 : decode cX6_many 1 = .ok (.istore_n 2, 1) := dk_61 (dk_at dksX6_many_0 1 rfl rfl)
theorem dX6_many_2 : decode cX6_many 2 = .ok (.iconst 0, 1) := dk_3 (dk_at dksX6_many_0 2 rfl rfl)
theorem dX6_many_3 : decode cX6_many 3 = .ok (.istore_n 3, 1) := dk_62 (dk_at dksX6_many_0 3 rfl rfl)
theorem dX6_many_4 : decode cX6_many 4 = .ok (.iload_n 3, 1) := dk_29 (dk_at dksX6_many_0 4 rfl rfl)
theorem dX6_many_5 : decode cX6_many 5 = .ok (.aload_n 0, 1) := dk_42 (dk_at dksX6_many_0 5 rfl rfl)
theorem dX6_many_6 : decode cX6_many 6 = .ok (.invokevirtual 76, 3) := dk_182 0 76 (dk_at dksX6_many_0 6 rfl rfl)
theorem dX6_many_9 : decode cX6_many 9 = .ok (.if_icmp .ge 27, 3) := dk_162 0 27 (dk_at dksX6_many_0 9 rfl rfl)
theorem dX6_many_12 : decode cX6_many 12 = .ok (.iload_n 2, 1) := dk_28 (dk_at dksX6_many_0 12 rfl rfl)
theorem dX6_many_13 : decode cX6_many 13 = .ok (.aload_n 0, 1) := dk_42 (dk_at dksX6_many_0 13 rfl rfl)
theorem dX6_many_14 : decode cX6_many 14 = .ok (.getfield 20, 3) := dk_180 0 20 (dk_at dksX6_many_0 14 rfl rfl)
theorem dX6_many_17 : decode cX6_many 17 = .ok (.iload_n 3, 1) := dk_29 (dk_at dksX6_many_0 17 rfl rfl)
theorem dX6_many_18 : decode cX6_many 18 = .ok (.iaload, 1) := dk_46 (dk_at dksX6_many_0 18 rfl rfl)
theorem dX6_many_19 : decode cX6_many 19 = .ok (.iload_n 1, 1) := dk_27 (dk_at dksX6_many_0 19 rfl rfl)
theorem dX6_many_20 : decode cX6_many 20 = .ok (.if_icmp .ne 7, 3) := dk_160 0 7 (dk_at dksX6_many_0 20 rfl rfl)
theorem dX6_many_23 : decode cX6_many 23 = .ok (.iconst 1, 1) := dk_4 (dk_at dksX6_many_0 23 rfl rfl)
theorem dX6_many_24 : decode cX6_many 24 = .ok (.goto 4, 3) := dk_167 0 4 (dk_at dksX6_many_1 0 rfl rfl)
theorem dX6_many_27 : decode cX6_many 27 = .ok (.iconst 0, 1) := dk_3 (dk_at dksX6_many_1 3 rfl rfl)
theorem dX6_many_28 : decode cX6_many 28 = .ok (.iadd, 1) := dk_96 (dk_at dksX6_many_1 4 rfl rfl)
theorem dX6_many_29 : decode cX6_many 29 = .ok (.istore_n 2, 1) := dk_61 (dk_at dksX6_many_1 5 rfl rfl)
theorem dX6_many_30 : decode cX6_many 30 = .ok (.iinc 3 1, 3) := dk_132 3 1 (dk_at dksX6_many_1 6 rfl rfl)
theorem dX6_many_33 : decode cX6_many 33 = .ok (.goto (-29), 3) := dk_167 255 227 (dk_at dksX6_many_1 9 rfl rfl)
theorem dX6_many_36 : decode cX6_many 36 = .ok (.iload_n 2, 1) := dk_28 (dk_at dksX6_many_1 12 rfl rfl)
theorem dX6_many_37 : decode cX6_many 37 = .ok (.ireturn, 1) := dk_172 (dk_at dksX6_many_1 13 rfl rfl)
abbrev cX6_cells : ByteArray := prog_14_method_6_code
def yX6_cells : MethodName := ⟨RX6, "cells", "()I"⟩
def dkwX6_cells_0 : List UInt8 := [42, 180, 0, 9, 42, 180, 0, 13, 104, 172]
abbrev dktX6_cells_0 : List UInt8 := dkwX6_cells_0 ++ []
theorem dksX6_cells_0 : cX6_cells.data.toList.drop 0 = dktX6_cells_0 := by decide +kernel
theorem dX6_cells_0 : decode cX6_cells 0 = .ok (.aload_n 0, 1) := dk_42 (dk_at dksX6_cells_0 0 rfl rfl)
theorem dX6_cells_1 : decode cX6_cells 1 = .ok (.getfield 9, 3) := dk_180 0 9 (dk_at dksX6_cells_0 1 rfl rfl)
theorem dX6_cells_4 : decode cX6_cells 4 = .ok (.aload_n 0, 1) := dk_42 (dk_at dksX6_cells_0 4 rfl rfl)
theorem dX6_cells_5 : decode cX6_cells 5 = .ok (.getfield 13, 3) := dk_180 0 13 (dk_at dksX6_cells_0 5 rfl rfl)
theorem dX6_cells_8 : decode cX6_cells 8 = .ok (.imul, 1) := dk_104 (dk_at dksX6_cells_0 8 rfl rfl)
theorem dX6_cells_9 : decode cX6_cells 9 = .ok (.ireturn, 1) := dk_172 (dk_at dksX6_cells_0 9 rfl rfl)
abbrev cX6_setRule : ByteArray := prog_14_method_11_code
def yX6_setRule : MethodName := ⟨RX6, "setRule", "(I)I"⟩
def dkwX6_setRule_1 : List UInt8 := [160, 0, 5, 3, 172, 42, 180, 0, 88, 61, 42, 27, 181, 0, 88, 28, 172]
abbrev dktX6_setRule_1 : List UInt8 := dkwX6_setRule_1 ++ []
def dkwX6_setRule_0 : List UInt8 := [42, 27, 3, 5, 184, 0, 80, 153, 0, 7, 3, 167, 0, 4, 4, 181, 0, 73, 42, 180, 0, 73, 4]
abbrev dktX6_setRule_0 : List UInt8 := dkwX6_setRule_0 ++ dktX6_setRule_1
theorem dksX6_setRule_0 : cX6_setRule.data.toList.drop 0 = dktX6_setRule_0 := by decide +kernel
theorem dksX6_setRule_1 : cX6_setRule.data.toList.drop 23 = dktX6_setRule_1 := dk_seg dksX6_setRule_0 23 rfl rfl
theorem dX6_setRule_0 : decode cX6_setRule 0 = .ok (.aload_n 0, 1) := dk_42 (dk_at dksX6_setRule_0 0 rfl rfl)
theorem dX6_setRule_1 : decode cX6_setRule 1 = .ok (.iload_n 1, 1) := dk_27 (dk_at dksX6_setRule_0 1 rfl rfl)
theorem dX6_setRule_2 : decode cX6_setRule 2 = .ok (.iconst 0, 1) := dk_3 (dk_at dksX6_setRule_0 2 rfl rfl)
theorem dX6_setRule_3 : decode cX6_setRule 3 = .ok (.iconst 2, 1) := dk_5 (dk_at dksX6_setRule_0 3 rfl rfl)
theorem dX6_setRule_4 : decode cX6_setRule 4 = .ok (.invokestatic 80, 3) := dk_184 0 80 (dk_at dksX6_setRule_0 4 rfl rfl)
theorem dX6_setRule_7 : decode cX6_setRule 7 = .ok (.ifCond .eq 7, 3) := dk_153 0 7 (dk_at dksX6_setRule_0 7 rfl rfl)
theorem dX6_setRule_10 : decode cX6_setRule 10 = .ok (.iconst 0, 1) := dk_3 (dk_at dksX6_setRule_0 10 rfl rfl)
theorem dX6_setRule_11 : decode cX6_setRule 11 = .ok (.goto 4, 3) := dk_167 0 4 (dk_at dksX6_setRule_0 11 rfl rfl)
theorem dX6_setRule_14 : decode cX6_setRule 14 = .ok (.iconst 1, 1) := dk_4 (dk_at dksX6_setRule_0 14 rfl rfl)
theorem dX6_setRule_15 : decode cX6_setRule 15 = .ok (.putfield 73, 3) := dk_181 0 73 (dk_at dksX6_setRule_0 15 rfl rfl)
theorem dX6_setRule_18 : decode cX6_setRule 18 = .ok (.aload_n 0, 1) := dk_42 (dk_at dksX6_setRule_0 18 rfl rfl)
theorem dX6_setRule_19 : decode cX6_setRule 19 = .ok (.getfield 73, 3) := dk_180 0 73 (dk_at dksX6_setRule_0 19 rfl rfl)
theorem dX6_setRule_22 : decode cX6_setRule 22 = .ok (.iconst 1, 1) := dk_4 (dk_at dksX6_setRule_0 22 rfl rfl)
theorem dX6_setRule_23 : decode cX6_setRule 23 = .ok (.if_icmp .ne 5, 3) := dk_160 0 5 (dk_at dksX6_setRule_1 0 rfl rfl)
theorem dX6_setRule_26 : decode cX6_setRule 26 = .ok (.iconst 0, 1) := dk_3 (dk_at dksX6_setRule_1 3 rfl rfl)
theorem dX6_setRule_27 : decode cX6_setRule 27 = .ok (.ireturn, 1) := dk_172 (dk_at dksX6_setRule_1 4 rfl rfl)
theorem dX6_setRule_28 : decode cX6_setRule 28 = .ok (.aload_n 0, 1) := dk_42 (dk_at dksX6_setRule_1 5 rfl rfl)
theorem dX6_setRule_29 : decode cX6_setRule 29 = .ok (.getfield 88, 3) := dk_180 0 88 (dk_at dksX6_setRule_1 6 rfl rfl)
theorem dX6_setRule_32 : decode cX6_setRule 32 = .ok (.istore_n 2, 1) := dk_61 (dk_at dksX6_setRule_1 9 rfl rfl)
theorem dX6_setRule_33 : decode cX6_setRule 33 = .ok (.aload_n 0, 1) := dk_42 (dk_at dksX6_setRule_1 10 rfl rfl)
theorem dX6_setRule_34 : decode cX6_setRule 34 = .ok (.iload_n 1, 1) := dk_27 (dk_at dksX6_setRule_1 11 rfl rfl)
theorem dX6_setRule_35 : decode cX6_setRule 35 = .ok (.putfield 88, 3) := dk_181 0 88 (dk_at dksX6_setRule_1 12 rfl rfl)
theorem dX6_setRule_38 : decode cX6_setRule 38 = .ok (.iload_n 2, 1) := dk_28 (dk_at dksX6_setRule_1 15 rfl rfl)
theorem dX6_setRule_39 : decode cX6_setRule 39 = .ok (.ireturn, 1) := dk_172 (dk_at dksX6_setRule_1 16 rfl rfl)
abbrev cX6_setBonus : ByteArray := prog_14_method_12_code
def yX6_setBonus : MethodName := ⟨RX6, "setBonus", "(II)I"⟩
def dkwX6_setBonus_2 : List UInt8 := [42, 180, 0, 16, 27, 28, 79, 29, 172]
abbrev dktX6_setBonus_2 : List UInt8 := dkwX6_setBonus_2 ++ []
def dkwX6_setBonus_1 : List UInt8 := [5, 167, 0, 4, 3, 181, 0, 73, 42, 180, 0, 73, 158, 0, 5, 3, 172, 42, 180, 0, 16, 27, 46, 62]
abbrev dktX6_setBonus_1 : List UInt8 := dkwX6_setBonus_1 ++ dktX6_setBonus_2
def dkwX6_setBonus_0 : List UInt8 := [42, 27, 3, 4, 184, 0, 80, 154, 0, 7, 4, 167, 0, 18, 28, 3, 16, 20, 184, 0, 80, 154, 0, 7]
abbrev dktX6_setBonus_0 : List UInt8 := dkwX6_setBonus_0 ++ dktX6_setBonus_1
theorem dksX6_setBonus_0 : cX6_setBonus.data.toList.drop 0 = dktX6_setBonus_0 := by decide +kernel
theorem dksX6_setBonus_1 : cX6_setBonus.data.toList.drop 24 = dktX6_setBonus_1 := dk_seg dksX6_setBonus_0 24 rfl rfl
theorem dksX6_setBonus_2 : cX6_setBonus.data.toList.drop 48 = dktX6_setBonus_2 := dk_seg dksX6_setBonus_1 24 rfl rfl
theorem dX6_setBonus_0 : decode cX6_setBonus 0 = .ok (.aload_n 0, 1) := dk_42 (dk_at dksX6_setBonus_0 0 rfl rfl)
theorem dX6_setBonus_1 : decode cX6_setBonus 1 = .ok (.iload_n 1, 1) := dk_27 (dk_at dksX6_setBonus_0 1 rfl rfl)
theorem dX6_setBonus_2 : decode cX6_setBonus 2 = .ok (.iconst 0, 1) := dk_3 (dk_at dksX6_setBonus_0 2 rfl rfl)
theorem dX6_setBonus_3 : decode cX6_setBonus 3 = .ok (.iconst 1, 1) := dk_4 (dk_at dksX6_setBonus_0 3 rfl rfl)
theorem dX6_setBonus_4 : decode cX6_setBonus 4 = .ok (.invokestatic 80, 3) := dk_184 0 80 (dk_at dksX6_setBonus_0 4 rfl rfl)
theorem dX6_setBonus_7 : decode cX6_setBonus 7 = .ok (.ifCond .ne 7, 3) := dk_154 0 7 (dk_at dksX6_setBonus_0 7 rfl rfl)
theorem dX6_setBonus_10 : decode cX6_setBonus 10 = .ok (.iconst 1, 1) := dk_4 (dk_at dksX6_setBonus_0 10 rfl rfl)
theorem dX6_setBonus_11 : decode cX6_setBonus 11 = .ok (.goto 18, 3) := dk_167 0 18 (dk_at dksX6_setBonus_0 11 rfl rfl)
theorem dX6_setBonus_14 : decode cX6_setBonus 14 = .ok (.iload_n 2, 1) := dk_28 (dk_at dksX6_setBonus_0 14 rfl rfl)
theorem dX6_setBonus_15 : decode cX6_setBonus 15 = .ok (.iconst 0, 1) := dk_3 (dk_at dksX6_setBonus_0 15 rfl rfl)
theorem dX6_setBonus_16 : decode cX6_setBonus 16 = .ok (.bipush 20, 2) := dk_16 20 (dk_at dksX6_setBonus_0 16 rfl rfl)
theorem dX6_setBonus_18 : decode cX6_setBonus 18 = .ok (.invokestatic 80, 3) := dk_184 0 80 (dk_at dksX6_setBonus_0 18 rfl rfl)
theorem dX6_setBonus_21 : decode cX6_setBonus 21 = .ok (.ifCond .ne 7, 3) := dk_154 0 7 (dk_at dksX6_setBonus_0 21 rfl rfl)
theorem dX6_setBonus_24 : decode cX6_setBonus 24 = .ok (.iconst 2, 1) := dk_5 (dk_at dksX6_setBonus_1 0 rfl rfl)
theorem dX6_setBonus_25 : decode cX6_setBonus 25 = .ok (.goto 4, 3) := dk_167 0 4 (dk_at dksX6_setBonus_1 1 rfl rfl)
theorem dX6_setBonus_28 : decode cX6_setBonus 28 = .ok (.iconst 0, 1) := dk_3 (dk_at dksX6_setBonus_1 4 rfl rfl)
theorem dX6_setBonus_29 : decode cX6_setBonus 29 = .ok (.putfield 73, 3) := dk_181 0 73 (dk_at dksX6_setBonus_1 5 rfl rfl)
theorem dX6_setBonus_32 : decode cX6_setBonus 32 = .ok (.aload_n 0, 1) := dk_42 (dk_at dksX6_setBonus_1 8 rfl rfl)
theorem dX6_setBonus_33 : decode cX6_setBonus 33 = .ok (.getfield 73, 3) := dk_180 0 73 (dk_at dksX6_setBonus_1 9 rfl rfl)
theorem dX6_setBonus_36 : decode cX6_setBonus 36 = .ok (.ifCond .le 5, 3) := dk_158 0 5 (dk_at dksX6_setBonus_1 12 rfl rfl)
theorem dX6_setBonus_39 : decode cX6_setBonus 39 = .ok (.iconst 0, 1) := dk_3 (dk_at dksX6_setBonus_1 15 rfl rfl)
theorem dX6_setBonus_40 : decode cX6_setBonus 40 = .ok (.ireturn, 1) := dk_172 (dk_at dksX6_setBonus_1 16 rfl rfl)
theorem dX6_setBonus_41 : decode cX6_setBonus 41 = .ok (.aload_n 0, 1) := dk_42 (dk_at dksX6_setBonus_1 17 rfl rfl)
theorem dX6_setBonus_42 : decode cX6_setBonus 42 = .ok (.getfield 16, 3) := dk_180 0 16 (dk_at dksX6_setBonus_1 18 rfl rfl)
theorem dX6_setBonus_45 : decode cX6_setBonus 45 = .ok (.iload_n 1, 1) := dk_27 (dk_at dksX6_setBonus_1 21 rfl rfl)
theorem dX6_setBonus_46 : decode cX6_setBonus 46 = .ok (.iaload, 1) := dk_46 (dk_at dksX6_setBonus_1 22 rfl rfl)
theorem dX6_setBonus_47 : decode cX6_setBonus 47 = .ok (.istore_n 3, 1) := dk_62 (dk_at dksX6_setBonus_1 23 rfl rfl)
theorem dX6_setBonus_48 : decode cX6_setBonus 48 = .ok (.aload_n 0, 1) := dk_42 (dk_at dksX6_setBonus_2 0 rfl rfl)
theorem dX6_setBonus_49 : decode cX6_setBonus 49 = .ok (.getfield 16, 3) := dk_180 0 16 (dk_at dksX6_setBonus_2 1 rfl rfl)
theorem dX6_setBonus_52 : decode cX6_setBonus 52 = .ok (.iload_n 1, 1) := dk_27 (dk_at dksX6_setBonus_2 4 rfl rfl)
theorem dX6_setBonus_53 : decode cX6_setBonus 53 = .ok (.iload_n 2, 1) := dk_28 (dk_at dksX6_setBonus_2 5 rfl rfl)
theorem dX6_setBonus_54 : decode cX6_setBonus 54 = .ok (.iastore, 1) := dk_79 (dk_at dksX6_setBonus_2 6 rfl rfl)
theorem dX6_setBonus_55 : decode cX6_setBonus 55 = .ok (.iload_n 3, 1) := dk_29 (dk_at dksX6_setBonus_2 7 rfl rfl)
theorem dX6_setBonus_56 : decode cX6_setBonus 56 = .ok (.ireturn, 1) := dk_172 (dk_at dksX6_setBonus_2 8 rfl rfl)
abbrev cX6_play : ByteArray := prog_14_method_33_code
def yX6_play : MethodName := ⟨RX6, "play", "(II)I"⟩
def dkwX6_play_2 : List UInt8 := [27, 28, 182, 0, 174, 153, 0, 10, 42, 180, 0, 144, 167, 0, 8, 42, 6, 182, 0, 178, 172]
abbrev dktX6_play_2 : List UInt8 := dkwX6_play_2 ++ []
def dkwX6_play_1 : List UInt8 := [182, 0, 170, 153, 0, 7, 5, 167, 0, 4, 3, 181, 0, 73, 42, 180, 0, 73, 158, 0, 5, 3, 172, 42]
abbrev dktX6_play_1 : List UInt8 := dkwX6_play_1 ++ dktX6_play_2
def dkwX6_play_0 : List UInt8 := [42, 42, 27, 182, 0, 167, 153, 0, 11, 42, 28, 182, 0, 167, 154, 0, 7, 4, 167, 0, 15, 42]
abbrev dktX6_play_0 : List UInt8 := dkwX6_play_0 ++ dktX6_play_1
theorem dksX6_play_0 : cX6_play.data.toList.drop 0 = dktX6_play_0 := by decide +kernel
theorem dksX6_play_1 : cX6_play.data.toList.drop 22 = dktX6_play_1 := dk_seg dksX6_play_0 22 rfl rfl
theorem dksX6_play_2 : cX6_play.data.toList.drop 46 = dktX6_play_2 := dk_seg dksX6_play_1 24 rfl rfl
theorem dX6_play_0 : decode cX6_play 0 = .ok (.aload_n 0, 1) := dk_42 (dk_at dksX6_play_0 0 rfl rfl)
theorem dX6_play_1 : decode cX6_play 1 = .ok (.aload_n 0, 1) := dk_42 (dk_at dksX6_play_0 1 rfl rfl)
theorem dX6_play_2 : decode cX6_play 2 = .ok (.iload_n 1, 1) := dk_27 (dk_at dksX6_play_0 2 rfl rfl)
theorem dX6_play_3 : decode cX6_play 3 = .ok (.invokevirtual 167, 3) := dk_182 0 167 (dk_at dksX6_play_0 3 rfl rfl)
theorem dX6_play_6 : decode cX6_play 6 = .ok (.ifCond .eq 11, 3) := dk_153 0 11 (dk_at dksX6_play_0 6 rfl rfl)
theorem dX6_play_9 : decode cX6_play 9 = .ok (.aload_n 0, 1) := dk_42 (dk_at dksX6_play_0 9 rfl rfl)
theorem dX6_play_10 : decode cX6_play 10 = .ok (.iload_n 2, 1) := dk_28 (dk_at dksX6_play_0 10 rfl rfl)
theorem dX6_play_11 : decode cX6_play 11 = .ok (.invokevirtual 167, 3) := dk_182 0 167 (dk_at dksX6_play_0 11 rfl rfl)
theorem dX6_play_14 : decode cX6_play 14 = .ok (.ifCond .ne 7, 3) := dk_154 0 7 (dk_at dksX6_play_0 14 rfl rfl)
theorem dX6_play_17 : decode cX6_play 17 = .ok (.iconst 1, 1) := dk_4 (dk_at dksX6_play_0 17 rfl rfl)
theorem dX6_play_18 : decode cX6_play 18 = .ok (.goto 15, 3) := dk_167 0 15 (dk_at dksX6_play_0 18 rfl rfl)
theorem dX6_play_21 : decode cX6_play 21 = .ok (.aload_n 0, 1) := dk_42 (dk_at dksX6_play_0 21 rfl rfl)
theorem dX6_play_22 : decode cX6_play 22 = .ok (.invokevirtual 170, 3) := dk_182 0 170 (dk_at dksX6_play_1 0 rfl rfl)
theorem dX6_play_25 : decode cX6_play 25 = .ok (.ifCond .eq 7, 3) := dk_153 0 7 (dk_at dksX6_play_1 3 rfl rfl)
theorem dX6_play_28 : decode cX6_play 28 = .ok (.iconst 2, 1) := dk_5 (dk_at dksX6_play_1 6 rfl rfl)
theorem dX6_play_29 : decode cX6_play 29 = .ok (.goto 4, 3) := dk_167 0 4 (dk_at dksX6_play_1 7 rfl rfl)
theorem dX6_play_32 : decode cX6_play 32 = .ok (.iconst 0, 1) := dk_3 (dk_at dksX6_play_1 10 rfl rfl)
theorem dX6_play_33 : decode cX6_play 33 = .ok (.putfield 73, 3) := dk_181 0 73 (dk_at dksX6_play_1 11 rfl rfl)
theorem dX6_play_36 : decode cX6_play 36 = .ok (.aload_n 0, 1) := dk_42 (dk_at dksX6_play_1 14 rfl rfl)
theorem dX6_play_37 : decode cX6_play 37 = .ok (.getfield 73, 3) := dk_180 0 73 (dk_at dksX6_play_1 15 rfl rfl)
theorem dX6_play_40 : decode cX6_play 40 = .ok (.ifCond .le 5, 3) := dk_158 0 5 (dk_at dksX6_play_1 18 rfl rfl)
theorem dX6_play_43 : decode cX6_play 43 = .ok (.iconst 0, 1) := dk_3 (dk_at dksX6_play_1 21 rfl rfl)
theorem dX6_play_44 : decode cX6_play 44 = .ok (.ireturn, 1) := dk_172 (dk_at dksX6_play_1 22 rfl rfl)
theorem dX6_play_45 : decode cX6_play 45 = .ok (.aload_n 0, 1) := dk_42 (dk_at dksX6_play_1 23 rfl rfl)
theorem dX6_play_46 : decode cX6_play 46 = .ok (.iload_n 1, 1) := dk_27 (dk_at dksX6_play_2 0 rfl rfl)
theorem dX6_play_47 : decode cX6_play 47 = .ok (.iload_n 2, 1) := dk_28 (dk_at dksX6_play_2 1 rfl rfl)
theorem dX6_play_48 : decode cX6_play 48 = .ok (.invokevirtual 174, 3) := dk_182 0 174 (dk_at dksX6_play_2 2 rfl rfl)
theorem dX6_play_51 : decode cX6_play 51 = .ok (.ifCond .eq 10, 3) := dk_153 0 10 (dk_at dksX6_play_2 5 rfl rfl)
theorem dX6_play_54 : decode cX6_play 54 = .ok (.aload_n 0, 1) := dk_42 (dk_at dksX6_play_2 8 rfl rfl)
theorem dX6_play_55 : decode cX6_play 55 = .ok (.getfield 144, 3) := dk_180 0 144 (dk_at dksX6_play_2 9 rfl rfl)
theorem dX6_play_58 : decode cX6_play 58 = .ok (.goto 8, 3) := dk_167 0 8 (dk_at dksX6_play_2 12 rfl rfl)
theorem dX6_play_61 : decode cX6_play 61 = .ok (.aload_n 0, 1) := dk_42 (dk_at dksX6_play_2 15 rfl rfl)
theorem dX6_play_62 : decode cX6_play 62 = .ok (.iconst 3, 1) := dk_6 (dk_at dksX6_play_2 16 rfl rfl)
theorem dX6_play_63 : decode cX6_play 63 = .ok (.invokevirtual 178, 3) := dk_182 0 178 (dk_at dksX6_play_2 17 rfl rfl)
theorem dX6_play_66 : decode cX6_play 66 = .ok (.ireturn, 1) := dk_172 (dk_at dksX6_play_2 20 rfl rfl)
abbrev cX6_isChoice : ByteArray := prog_14_method_30_code
def yX6_isChoice : MethodName := ⟨RX6, "isChoice", "(I)Z"⟩
def dkwX6_isChoice_0 : List UInt8 := [27, 2, 159, 0, 11, 42, 27, 182, 0, 150, 153, 0, 7, 4, 167, 0, 4, 3, 172]
abbrev dktX6_isChoice_0 : List UInt8 := dkwX6_isChoice_0 ++ []
theorem dksX6_isChoice_0 : cX6_isChoice.data.toList.drop 0 = dktX6_isChoice_0 := by decide +kernel
theorem dX6_isChoice_0 : decode cX6_isChoice 0 = .ok (.iload_n 1, 1) := dk_27 (dk_at dksX6_isChoice_0 0 rfl rfl)
theorem dX6_isChoice_1 : decode cX6_isChoice 1 = .ok (.iconst (-1), 1) := dk_2 (dk_at dksX6_isChoice_0 1 rfl rfl)
theorem dX6_isChoice_2 : decode cX6_isChoice 2 = .ok (.if_icmp .eq 11, 3) := dk_159 0 11 (dk_at dksX6_isChoice_0 2 rfl rfl)
theorem dX6_isChoice_5 : decode cX6_isChoice 5 = .ok (.aload_n 0, 1) := dk_42 (dk_at dksX6_isChoice_0 5 rfl rfl)
theorem dX6_isChoice_6 : decode cX6_isChoice 6 = .ok (.iload_n 1, 1) := dk_27 (dk_at dksX6_isChoice_0 6 rfl rfl)
theorem dX6_isChoice_7 : decode cX6_isChoice 7 = .ok (.invokevirtual 150, 3) := dk_182 0 150 (dk_at dksX6_isChoice_0 7 rfl rfl)
theorem dX6_isChoice_10 : decode cX6_isChoice 10 = .ok (.ifCond .eq 7, 3) := dk_153 0 7 (dk_at dksX6_isChoice_0 10 rfl rfl)
theorem dX6_isChoice_13 : decode cX6_isChoice 13 = .ok (.iconst 1, 1) := dk_4 (dk_at dksX6_isChoice_0 13 rfl rfl)
theorem dX6_isChoice_14 : decode cX6_isChoice 14 = .ok (.goto 4, 3) := dk_167 0 4 (dk_at dksX6_isChoice_0 14 rfl rfl)
theorem dX6_isChoice_17 : decode cX6_isChoice 17 = .ok (.iconst 0, 1) := dk_3 (dk_at dksX6_isChoice_0 17 rfl rfl)
theorem dX6_isChoice_18 : decode cX6_isChoice 18 = .ok (.ireturn, 1) := dk_172 (dk_at dksX6_isChoice_0 18 rfl rfl)
abbrev cX6_isCell : ByteArray := prog_14_method_7_code
def yX6_isCell : MethodName := ⟨RX6, "isCell", "(I)Z"⟩
def dkwX6_isCell_0 : List UInt8 := [27, 3, 42, 182, 0, 76, 4, 100, 184, 0, 80, 172]
abbrev dktX6_isCell_0 : List UInt8 := dkwX6_isCell_0 ++ []
theorem dksX6_isCell_0 : cX6_isCell.data.toList.drop 0 = dktX6_isCell_0 := by decide +kernel
theorem dX6_isCell_0 : decode cX6_isCell 0 = .ok (.iload_n 1, 1) := dk_27 (dk_at dksX6_isCell_0 0 rfl rfl)
theorem dX6_isCell_1 : decode cX6_isCell 1 = .ok (.iconst 0, 1) := dk_3 (dk_at dksX6_isCell_0 1 rfl rfl)
theorem dX6_isCell_2 : decode cX6_isCell 2 = .ok (.aload_n 0, 1) := dk_42 (dk_at dksX6_isCell_0 2 rfl rfl)
theorem dX6_isCell_3 : decode cX6_isCell 3 = .ok (.invokevirtual 76, 3) := dk_182 0 76 (dk_at dksX6_isCell_0 3 rfl rfl)
theorem dX6_isCell_6 : decode cX6_isCell 6 = .ok (.iconst 1, 1) := dk_4 (dk_at dksX6_isCell_0 6 rfl rfl)
theorem dX6_isCell_7 : decode cX6_isCell 7 = .ok (.isub, 1) := dk_100 (dk_at dksX6_isCell_0 7 rfl rfl)
theorem dX6_isCell_8 : decode cX6_isCell 8 = .ok (.invokestatic 80, 3) := dk_184 0 80 (dk_at dksX6_isCell_0 8 rfl rfl)
theorem dX6_isCell_11 : decode cX6_isCell 11 = .ok (.ireturn, 1) := dk_172 (dk_at dksX6_isCell_0 11 rfl rfl)
abbrev cX6_over : ByteArray := prog_14_method_24_code
def yX6_over : MethodName := ⟨RX6, "over", "()Z"⟩
def dkwX6_over_1 : List UInt8 := [159, 0, 10, 42, 182, 0, 108, 154, 0, 7, 4, 167, 0, 4, 3, 172]
abbrev dktX6_over_1 : List UInt8 := dkwX6_over_1 ++ []
def dkwX6_over_0 : List UInt8 := [42, 180, 0, 20, 17, 0, 154, 46, 4, 159, 0, 23, 42, 180, 0, 20, 17, 0, 153, 46, 16, 60]
abbrev dktX6_over_0 : List UInt8 := dkwX6_over_0 ++ dktX6_over_1
theorem dksX6_over_0 : cX6_over.data.toList.drop 0 = dktX6_over_0 := by decide +kernel
theorem dksX6_over_1 : cX6_over.data.toList.drop 22 = dktX6_over_1 := dk_seg dksX6_over_0 22 rfl rfl
theorem dX6_over_0 : decode cX6_over 0 = .ok (.aload_n 0, 1) := dk_42 (dk_at dksX6_over_0 0 rfl rfl)
theorem dX6_over_1 : decode cX6_over 1 = .ok (.getfield 20, 3) := dk_180 0 20 (dk_at dksX6_over_0 1 rfl rfl)
theorem dX6_over_4 : decode cX6_over 4 = .ok (.sipush 154, 3) := dk_17 0 154 (dk_at dksX6_over_0 4 rfl rfl)
theorem dX6_over_7 : decode cX6_over 7 = .ok (.iaload, 1) := dk_46 (dk_at dksX6_over_0 7 rfl rfl)
theorem dX6_over_8 : decode cX6_over 8 = .ok (.iconst 1, 1) := dk_4 (dk_at dksX6_over_0 8 rfl rfl)
theorem dX6_over_9 : decode cX6_over 9 = .ok (.if_icmp .eq 23, 3) := dk_159 0 23 (dk_at dksX6_over_0 9 rfl rfl)
theorem dX6_over_12 : decode cX6_over 12 = .ok (.aload_n 0, 1) := dk_42 (dk_at dksX6_over_0 12 rfl rfl)
theorem dX6_over_13 : decode cX6_over 13 = .ok (.getfield 20, 3) := dk_180 0 20 (dk_at dksX6_over_0 13 rfl rfl)
theorem dX6_over_16 : decode cX6_over 16 = .ok (.sipush 153, 3) := dk_17 0 153 (dk_at dksX6_over_0 16 rfl rfl)
theorem dX6_over_19 : decode cX6_over 19 = .ok (.iaload, 1) := dk_46 (dk_at dksX6_over_0 19 rfl rfl)
theorem dX6_over_20 : decode cX6_over 20 = .ok (.bipush 60, 2) := dk_16 60 (dk_at dksX6_over_0 20 rfl rfl)
theorem dX6_over_22 : decode cX6_over 22 = .ok (.if_icmp .eq 10, 3) := dk_159 0 10 (dk_at dksX6_over_1 0 rfl rfl)
theorem dX6_over_25 : decode cX6_over 25 = .ok (.aload_n 0, 1) := dk_42 (dk_at dksX6_over_1 3 rfl rfl)
theorem dX6_over_26 : decode cX6_over 26 = .ok (.invokevirtual 108, 3) := dk_182 0 108 (dk_at dksX6_over_1 4 rfl rfl)
theorem dX6_over_29 : decode cX6_over 29 = .ok (.ifCond .ne 7, 3) := dk_154 0 7 (dk_at dksX6_over_1 7 rfl rfl)
theorem dX6_over_32 : decode cX6_over 32 = .ok (.iconst 1, 1) := dk_4 (dk_at dksX6_over_1 10 rfl rfl)
theorem dX6_over_33 : decode cX6_over 33 = .ok (.goto 4, 3) := dk_167 0 4 (dk_at dksX6_over_1 11 rfl rfl)
theorem dX6_over_36 : decode cX6_over 36 = .ok (.iconst 0, 1) := dk_3 (dk_at dksX6_over_1 14 rfl rfl)
theorem dX6_over_37 : decode cX6_over 37 = .ok (.ireturn, 1) := dk_172 (dk_at dksX6_over_1 15 rfl rfl)
abbrev cX6_emptyCells : ByteArray := prog_14_method_23_code
def yX6_emptyCells : MethodName := ⟨RX6, "emptyCells", "()I"⟩
def dkwX6_emptyCells_0 : List UInt8 := [42, 3, 182, 0, 84, 172]
abbrev dktX6_emptyCells_0 : List UInt8 := dkwX6_emptyCells_0 ++ []
theorem dksX6_emptyCells_0 : cX6_emptyCells.data.toList.drop 0 = dktX6_emptyCells_0 := by decide +kernel
theorem dX6_emptyCells_0 : decode cX6_emptyCells 0 = .ok (.aload_n 0, 1) := dk_42 (dk_at dksX6_emptyCells_0 0 rfl rfl)
theorem dX6_emptyCells_1 : decode cX6_emptyCells 1 = .ok (.iconst 0, 1) := dk_3 (dk_at dksX6_emptyCells_0 1 rfl rfl)
theorem dX6_emptyCells_2 : decode cX6_emptyCells 2 = .ok (.invokevirtual 84, 3) := dk_182 0 84 (dk_at dksX6_emptyCells_0 2 rfl rfl)
theorem dX6_emptyCells_5 : decode cX6_emptyCells 5 = .ok (.ireturn, 1) := dk_172 (dk_at dksX6_emptyCells_0 5 rfl rfl)
abbrev cX6_goes : ByteArray := prog_14_method_32_code
def yX6_goes : MethodName := ⟨RX6, "goes", "(II)Z"⟩
def dkwX6_goes_9 : List UInt8 := [46, 79, 132, 5, 1, 167, 255, 225, 4, 172]
abbrev dktX6_goes_9 : List UInt8 := dkwX6_goes_9 ++ []
def dkwX6_goes_8 : List UInt8 := [42, 180, 0, 141, 162, 0, 28, 42, 180, 0, 35, 16, 8, 29, 104, 21, 5, 96, 42, 180, 0, 56, 21, 5]
abbrev dktX6_goes_8 : List UInt8 := dkwX6_goes_8 ++ dktX6_goes_9
def dkwX6_goes_7 : List UInt8 := [182, 0, 138, 79, 42, 180, 0, 32, 21, 4, 16, 6, 96, 42, 4, 182, 0, 138, 79, 3, 54, 5, 21, 5]
abbrev dktX6_goes_7 : List UInt8 := dkwX6_goes_7 ++ dktX6_goes_8
def dkwX6_goes_6 : List UInt8 := [79, 42, 180, 0, 32, 21, 4, 7, 96, 42, 180, 0, 144, 79, 42, 180, 0, 32, 21, 4, 8, 96, 42, 3]
abbrev dktX6_goes_6 : List UInt8 := dkwX6_goes_6 ++ dktX6_goes_7
def dkwX6_goes_5 : List UInt8 := [180, 0, 32, 21, 4, 5, 96, 42, 180, 0, 135, 79, 42, 180, 0, 32, 21, 4, 6, 96, 42, 180, 0, 141]
abbrev dktX6_goes_5 : List UInt8 := dkwX6_goes_5 ++ dktX6_goes_6
def dkwX6_goes_4 : List UInt8 := [104, 54, 4, 42, 180, 0, 32, 21, 4, 27, 79, 42, 180, 0, 32, 21, 4, 4, 96, 28, 79, 42]
abbrev dktX6_goes_4 : List UInt8 := dkwX6_goes_4 ++ dktX6_goes_5
def dkwX6_goes_3 : List UInt8 := [96, 42, 180, 0, 20, 21, 4, 46, 79, 132, 4, 1, 167, 255, 225, 42, 27, 28, 182, 0, 164, 16, 7, 29]
abbrev dktX6_goes_3 : List UInt8 := dkwX6_goes_3 ++ dktX6_goes_4
def dkwX6_goes_2 : List UInt8 := [46, 62, 3, 54, 4, 21, 4, 17, 0, 155, 162, 0, 29, 42, 180, 0, 29, 17, 0, 155, 29, 104, 21, 4]
abbrev dktX6_goes_2 : List UInt8 := dkwX6_goes_2 ++ dktX6_goes_3
def dkwX6_goes_1 : List UInt8 := [42, 3, 27, 182, 0, 160, 167, 0, 9, 42, 4, 28, 182, 0, 160, 3, 172, 42, 180, 0, 20, 17, 0, 153]
abbrev dktX6_goes_1 : List UInt8 := dkwX6_goes_1 ++ dktX6_goes_2
def dkwX6_goes_0 : List UInt8 := [42, 27, 182, 0, 157, 153, 0, 11, 42, 28, 182, 0, 157, 154, 0, 28, 42, 27, 182, 0, 157, 154, 0, 12]
abbrev dktX6_goes_0 : List UInt8 := dkwX6_goes_0 ++ dktX6_goes_1
theorem dksX6_goes_0 : cX6_goes.data.toList.drop 0 = dktX6_goes_0 := by decide +kernel
theorem dksX6_goes_1 : cX6_goes.data.toList.drop 24 = dktX6_goes_1 := dk_seg dksX6_goes_0 24 rfl rfl
theorem dksX6_goes_2 : cX6_goes.data.toList.drop 48 = dktX6_goes_2 := dk_seg dksX6_goes_1 24 rfl rfl
theorem dksX6_goes_3 : cX6_goes.data.toList.drop 72 = dktX6_goes_3 := dk_seg dksX6_goes_2 24 rfl rfl
theorem dksX6_goes_4 : cX6_goes.data.toList.drop 96 = dktX6_goes_4 := dk_seg dksX6_goes_3 24 rfl rfl
theorem dksX6_goes_5 : cX6_goes.data.toList.drop 118 = dktX6_goes_5 := dk_seg dksX6_goes_4 22 rfl rfl
theorem dksX6_goes_6 : cX6_goes.data.toList.drop 142 = dktX6_goes_6 := dk_seg dksX6_goes_5 24 rfl rfl
theorem dksX6_goes_7 : cX6_goes.data.toList.drop 166 = dktX6_goes_7 := dk_seg dksX6_goes_6 24 rfl rfl
theorem dksX6_goes_8 : cX6_goes.data.toList.drop 190 = dktX6_goes_8 := dk_seg dksX6_goes_7 24 rfl rfl
theorem dksX6_goes_9 : cX6_goes.data.toList.drop 214 = dktX6_goes_9 := dk_seg dksX6_goes_8 24 rfl rfl
theorem dX6_goes_0 : decode cX6_goes 0 = .ok (.aload_n 0, 1) := dk_42 (dk_at dksX6_goes_0 0 rfl rfl)
theorem dX6_goes_1 : decode cX6_goes 1 = .ok (.iload_n 1, 1) := dk_27 (dk_at dksX6_goes_0 1 rfl rfl)
theorem dX6_goes_2 : decode cX6_goes 2 = .ok (.invokevirtual 157, 3) := dk_182 0 157 (dk_at dksX6_goes_0 2 rfl rfl)
theorem dX6_goes_5 : decode cX6_goes 5 = .ok (.ifCond .eq 11, 3) := dk_153 0 11 (dk_at dksX6_goes_0 5 rfl rfl)
theorem dX6_goes_8 : decode cX6_goes 8 = .ok (.aload_n 0, 1) := dk_42 (dk_at dksX6_goes_0 8 rfl rfl)
theorem dX6_goes_9 : decode cX6_goes 9 = .ok (.iload_n 2, 1) := dk_28 (dk_at dksX6_goes_0 9 rfl rfl)
theorem dX6_goes_10 : decode cX6_goes 10 = .ok (.invokevirtual 157, 3) := dk_182 0 157 (dk_at dksX6_goes_0 10 rfl rfl)
theorem dX6_goes_13 : decode cX6_goes 13 = .ok (.ifCond .ne 28, 3) := dk_154 0 28 (dk_at dksX6_goes_0 13 rfl rfl)
theorem dX6_goes_16 : decode cX6_goes 16 = .ok (.aload_n 0, 1) := dk_42 (dk_at dksX6_goes_0 16 rfl rfl)
theorem dX6_goes_17 : decode cX6_goes 17 = .ok (.iload_n 1, 1) := dk_27 (dk_at dksX6_goes_0 17 rfl rfl)
theorem dX6_goes_18 : decode cX6_goes 18 = .ok (.invokevirtual 157, 3) := dk_182 0 157 (dk_at dksX6_goes_0 18 rfl rfl)
theorem dX6_goes_21 : decode cX6_goes 21 = .ok (.ifCond .ne 12, 3) := dk_154 0 12 (dk_at dksX6_goes_0 21 rfl rfl)
theorem dX6_goes_24 : decode cX6_goes 24 = .ok (.aload_n 0, 1) := dk_42 (dk_at dksX6_goes_1 0 rfl rfl)
theorem dX6_goes_25 : decode cX6_goes 25 = .ok (.iconst 0, 1) := dk_3 (dk_at dksX6_goes_1 1 rfl rfl)
theorem dX6_goes_26 : decode cX6_goes 26 = .ok (.iload_n 1, 1) := dk_27 (dk_at dksX6_goes_1 2 rfl rfl)
theorem dX6_goes_27 : decode cX6_goes 27 = .ok (.invokevirtual 160, 3) := dk_182 0 160 (dk_at dksX6_goes_1 3 rfl rfl)
theorem dX6_goes_30 : decode cX6_goes 30 = .ok (.goto 9, 3) := dk_167 0 9 (dk_at dksX6_goes_1 6 rfl rfl)
theorem dX6_goes_33 : decode cX6_goes 33 = .ok (.aload_n 0, 1) := dk_42 (dk_at dksX6_goes_1 9 rfl rfl)
theorem dX6_goes_34 : decode cX6_goes 34 = .ok (.iconst 1, 1) := dk_4 (dk_at dksX6_goes_1 10 rfl rfl)
theorem dX6_goes_35 : decode cX6_goes 35 = .ok (.iload_n 2, 1) := dk_28 (dk_at dksX6_goes_1 11 rfl rfl)
theorem dX6_goes_36 : decode cX6_goes 36 = .ok (.invokevirtual 160, 3) := dk_182 0 160 (dk_at dksX6_goes_1 12 rfl rfl)
theorem dX6_goes_39 : decode cX6_goes 39 = .ok (.iconst 0, 1) := dk_3 (dk_at dksX6_goes_1 15 rfl rfl)
theorem dX6_goes_40 : decode cX6_goes 40 = .ok (.ireturn, 1) := dk_172 (dk_at dksX6_goes_1 16 rfl rfl)
theorem dX6_goes_41 : decode cX6_goes 41 = .ok (.aload_n 0, 1) := dk_42 (dk_at dksX6_goes_1 17 rfl rfl)
theorem dX6_goes_42 : decode cX6_goes 42 = .ok (.getfield 20, 3) := dk_180 0 20 (dk_at dksX6_goes_1 18 rfl rfl)
theorem dX6_goes_45 : decode cX6_goes 45 = .ok (.sipush 153, 3) := dk_17 0 153 (dk_at dksX6_goes_1 21 rfl rfl)
theorem dX6_goes_48 : decode cX6_goes 48 = .ok (.iaload, 1) := dk_46 (dk_at dksX6_goes_2 0 rfl rfl)
theorem dX6_goes_49 : decode cX6_goes 49 = .ok (.istore_n 3, 1) := dk_62 (dk_at dksX6_goes_2 1 rfl rfl)
theorem dX6_goes_50 : decode cX6_goes 50 = .ok (.iconst 0, 1) := dk_3 (dk_at dksX6_goes_2 2 rfl rfl)
theorem dX6_goes_51 : decode cX6_goes 51 = .ok (.istore 4, 2) := dk_54 4 (dk_at dksX6_goes_2 3 rfl rfl)
theorem dX6_goes_53 : decode cX6_goes 53 = .ok (.iload 4, 2) := dk_21 4 (dk_at dksX6_goes_2 5 rfl rfl)
theorem dX6_goes_55 : decode cX6_goes 55 = .ok (.sipush 155, 3) := dk_17 0 155 (dk_at dksX6_goes_2 7 rfl rfl)
theorem dX6_goes_58 : decode cX6_goes 58 = .ok (.if_icmp .ge 29, 3) := dk_162 0 29 (dk_at dksX6_goes_2 10 rfl rfl)
theorem dX6_goes_61 : decode cX6_goes 61 = .ok (.aload_n 0, 1) := dk_42 (dk_at dksX6_goes_2 13 rfl rfl)
theorem dX6_goes_62 : decode cX6_goes 62 = .ok (.getfield 29, 3) := dk_180 0 29 (dk_at dksX6_goes_2 14 rfl rfl)
theorem dX6_goes_65 : decode cX6_goes 65 = .ok (.sipush 155, 3) := dk_17 0 155 (dk_at dksX6_goes_2 17 rfl rfl)
theorem dX6_goes_68 : decode cX6_goes 68 = .ok (.iload_n 3, 1) := dk_29 (dk_at dksX6_goes_2 20 rfl rfl)
theorem dX6_goes_69 : decode cX6_goes 69 = .ok (.imul, 1) := dk_104 (dk_at dksX6_goes_2 21 rfl rfl)
theorem dX6_goes_70 : decode cX6_goes 70 = .ok (.iload 4, 2) := dk_21 4 (dk_at dksX6_goes_2 22 rfl rfl)
theorem dX6_goes_72 : decode cX6_goes 72 = .ok (.iadd, 1) := dk_96 (dk_at dksX6_goes_3 0 rfl rfl)
theorem dX6_goes_73 : decode cX6_goes 73 = .ok (.aload_n 0, 1) := dk_42 (dk_at dksX6_goes_3 1 rfl rfl)
theorem dX6_goes_74 : decode cX6_goes 74 = .ok (.getfield 20, 3) := dk_180 0 20 (dk_at dksX6_goes_3 2 rfl rfl)
theorem dX6_goes_77 : decode cX6_goes 77 = .ok (.iload 4, 2) := dk_21 4 (dk_at dksX6_goes_3 5 rfl rfl)
theorem dX6_goes_79 : decode cX6_goes 79 = .ok (.iaload, 1) := dk_46 (dk_at dksX6_goes_3 7 rfl rfl)
theorem dX6_goes_80 : decode cX6_goes 80 = .ok (.iastore, 1) := dk_79 (dk_at dksX6_goes_3 8 rfl rfl)
theorem dX6_goes_81 : decode cX6_goes 81 = .ok (.iinc 4 1, 3) := dk_132 4 1 (dk_at dksX6_goes_3 9 rfl rfl)
theorem dX6_goes_84 : decode cX6_goes 84 = .ok (.goto (-31), 3) := dk_167 255 225 (dk_at dksX6_goes_3 12 rfl rfl)
theorem dX6_goes_87 : decode cX6_goes 87 = .ok (.aload_n 0, 1) := dk_42 (dk_at dksX6_goes_3 15 rfl rfl)
theorem dX6_goes_88 : decode cX6_goes 88 = .ok (.iload_n 1, 1) := dk_27 (dk_at dksX6_goes_3 16 rfl rfl)
theorem dX6_goes_89 : decode cX6_goes 89 = .ok (.iload_n 2, 1) := dk_28 (dk_at dksX6_goes_3 17 rfl rfl)
theorem dX6_goes_90 : decode cX6_goes 90 = .ok (.invokevirtual 164, 3) := dk_182 0 164 (dk_at dksX6_goes_3 18 rfl rfl)
theorem dX6_goes_93 : decode cX6_goes 93 = .ok (.bipush 7, 2) := dk_16 7 (dk_at dksX6_goes_3 21 rfl rfl)
theorem dX6_goes_95 : decode cX6_goes 95 = .ok (.iload_n 3, 1) := dk_29 (dk_at dksX6_goes_3 23 rfl rfl)
theorem dX6_goes_96 : decode cX6_goes 96 = .ok (.imul, 1) := dk_104 (dk_at dksX6_goes_4 0 rfl rfl)
theorem dX6_goes_97 : decode cX6_goes 97 = .ok (.istore 4, 2) := dk_54 4 (dk_at dksX6_goes_4 1 rfl rfl)
theorem dX6_goes_99 : decode cX6_goes 99 = .ok (.aload_n 0, 1) := dk_42 (dk_at dksX6_goes_4 3 rfl rfl)
theorem dX6_goes_100 : decode cX6_goes 100 = .ok (.getfield 32, 3) := dk_180 0 32 (dk_at dksX6_goes_4 4 rfl rfl)
theorem dX6_goes_103 : decode cX6_goes 103 = .ok (.iload 4, 2) := dk_21 4 (dk_at dksX6_goes_4 7 rfl rfl)
theorem dX6_goes_105 : decode cX6_goes 105 = .ok (.iload_n 1, 1) := dk_27 (dk_at dksX6_goes_4 9 rfl rfl)
theorem dX6_goes_106 : decode cX6_goes 106 = .ok (.iastore, 1) := dk_79 (dk_at dksX6_goes_4 10 rfl rfl)
theorem dX6_goes_107 : decode cX6_goes 107 = .ok (.aload_n 0, 1) := dk_42 (dk_at dksX6_goes_4 11 rfl rfl)
theorem dX6_goes_108 : decode cX6_goes 108 = .ok (.getfield 32, 3) := dk_180 0 32 (dk_at dksX6_goes_4 12 rfl rfl)
theorem dX6_goes_111 : decode cX6_goes 111 = .ok (.iload 4, 2) := dk_21 4 (dk_at dksX6_goes_4 15 rfl rfl)
theorem dX6_goes_113 : decode cX6_goes 113 = .ok (.iconst 1, 1) := dk_4 (dk_at dksX6_goes_4 17 rfl rfl)
theorem dX6_goes_114 : decode cX6_goes 114 = .ok (.iadd, 1) := dk_96 (dk_at dksX6_goes_4 18 rfl rfl)
theorem dX6_goes_115 : decode cX6_goes 115 = .ok (.iload_n 2, 1) := dk_28 (dk_at dksX6_goes_4 19 rfl rfl)
theorem dX6_goes_116 : decode cX6_goes 116 = .ok (.iastore, 1) := dk_79 (dk_at dksX6_goes_4 20 rfl rfl)
theorem dX6_goes_117 : decode cX6_goes 117 = .ok (.aload_n 0, 1) := dk_42 (dk_at dksX6_goes_4 21 rfl rfl)
theorem dX6_goes_118 : decode cX6_goes 118 = .ok (.getfield 32, 3) := dk_180 0 32 (dk_at dksX6_goes_5 0 rfl rfl)
theorem dX6_goes_121 : decode cX6_goes 121 = .ok (.iload 4, 2) := dk_21 4 (dk_at dksX6_goes_5 3 rfl rfl)
theorem dX6_goes_123 : decode cX6_goes 123 = .ok (.iconst 2, 1) := dk_5 (dk_at dksX6_goes_5 5 rfl rfl)
theorem dX6_goes_124 : decode cX6_goes 124 = .ok (.iadd, 1) := dk_96 (dk_at dksX6_goes_5 6 rfl rfl)
theorem dX6_goes_125 : decode cX6_goes 125 = .ok (.aload_n 0, 1) := dk_42 (dk_at dksX6_goes_5 7 rfl rfl)
theorem dX6_goes_126 : decode cX6_goes 126 = .ok (.getfield 135, 3) := dk_180 0 135 (dk_at dksX6_goes_5 8 rfl rfl)
theorem dX6_goes_129 : decode cX6_goes 129 = .ok (.iastore, 1) := dk_79 (dk_at dksX6_goes_5 11 rfl rfl)
theorem dX6_goes_130 : decode cX6_goes 130 = .ok (.aload_n 0, 1) := dk_42 (dk_at dksX6_goes_5 12 rfl rfl)
theorem dX6_goes_131 : decode cX6_goes 131 = .ok (.getfield 32, 3) := dk_180 0 32 (dk_at dksX6_goes_5 13 rfl rfl)
theorem dX6_goes_134 : decode cX6_goes 134 = .ok (.iload 4, 2) := dk_21 4 (dk_at dksX6_goes_5 16 rfl rfl)
theorem dX6_goes_136 : decode cX6_goes 136 = .ok (.iconst 3, 1) := dk_6 (dk_at dksX6_goes_5 18 rfl rfl)
theorem dX6_goes_137 : decode cX6_goes 137 = .ok (.iadd, 1) := dk_96 (dk_at dksX6_goes_5 19 rfl rfl)
theorem dX6_goes_138 : decode cX6_goes 138 = .ok (.aload_n 0, 1) := dk_42 (dk_at dksX6_goes_5 20 rfl rfl)
theorem dX6_goes_139 : decode cX6_goes 139 = .ok (.getfield 141, 3) := dk_180 0 141 (dk_at dksX6_goes_5 21 rfl rfl)
theorem dX6_goes_142 : decode cX6_goes 142 = .ok (.iastore, 1) := dk_79 (dk_at dksX6_goes_6 0 rfl rfl)
theorem dX6_goes_143 : decode cX6_goes 143 = .ok (.aload_n 0, 1) := dk_42 (dk_at dksX6_goes_6 1 rfl rfl)
theorem dX6_goes_144 : decode cX6_goes 144 = .ok (.getfield 32, 3) := dk_180 0 32 (dk_at dksX6_goes_6 2 rfl rfl)
theorem dX6_goes_147 : decode cX6_goes 147 = .ok (.iload 4, 2) := dk_21 4 (dk_at dksX6_goes_6 5 rfl rfl)
theorem dX6_goes_149 : decode cX6_goes 149 = .ok (.iconst 4, 1) := dk_7 (dk_at dksX6_goes_6 7 rfl rfl)
theorem dX6_goes_150 : decode cX6_goes 150 = .ok (.iadd, 1) := dk_96 (dk_at dksX6_goes_6 8 rfl rfl)
theorem dX6_goes_151 : decode cX6_goes 151 = .ok (.aload_n 0, 1) := dk_42 (dk_at dksX6_goes_6 9 rfl rfl)
theorem dX6_goes_152 : decode cX6_goes 152 = .ok (.getfield 144, 3) := dk_180 0 144 (dk_at dksX6_goes_6 10 rfl rfl)
theorem dX6_goes_155 : decode cX6_goes 155 = .ok (.iastore, 1) := dk_79 (dk_at dksX6_goes_6 13 rfl rfl)
theorem dX6_goes_156 : decode cX6_goes 156 = .ok (.aload_n 0, 1) := dk_42 (dk_at dksX6_goes_6 14 rfl rfl)
theorem dX6_goes_157 : decode cX6_goes 157 = .ok (.getfield 32, 3) := dk_180 0 32 (dk_at dksX6_goes_6 15 rfl rfl)
theorem dX6_goes_160 : decode cX6_goes 160 = .ok (.iload 4, 2) := dk_21 4 (dk_at dksX6_goes_6 18 rfl rfl)
theorem dX6_goes_162 : decode cX6_goes 162 = .ok (.iconst 5, 1) := dk_8 (dk_at dksX6_goes_6 20 rfl rfl)
theorem dX6_goes_163 : decode cX6_goes 163 = .ok (.iadd, 1) := dk_96 (dk_at dksX6_goes_6 21 rfl rfl)
theorem dX6_goes_164 : decode cX6_goes 164 = .ok (.aload_n 0, 1) := dk_42 (dk_at dksX6_goes_6 22 rfl rfl)
theorem dX6_goes_165 : decode cX6_goes 165 = .ok (.iconst 0, 1) := dk_3 (dk_at dksX6_goes_6 23 rfl rfl)
theorem dX6_goes_166 : decode cX6_goes 166 = .ok (.invokevirtual 138, 3) := dk_182 0 138 (dk_at dksX6_goes_7 0 rfl rfl)
theorem dX6_goes_169 : decode cX6_goes 169 = .ok (.iastore, 1) := dk_79 (dk_at dksX6_goes_7 3 rfl rfl)
theorem dX6_goes_170 : decode cX6_goes 170 = .ok (.aload_n 0, 1) := dk_42 (dk_at dksX6_goes_7 4 rfl rfl)
theorem dX6_goes_171 : decode cX6_goes 171 = .ok (.getfield 32, 3) := dk_180 0 32 (dk_at dksX6_goes_7 5 rfl rfl)
theorem dX6_goes_174 : decode cX6_goes 174 = .ok (.iload 4, 2) := dk_21 4 (dk_at dksX6_goes_7 8 rfl rfl)
theorem dX6_goes_176 : decode cX6_goes 176 = .ok (.bipush 6, 2) := dk_16 6 (dk_at dksX6_goes_7 10 rfl rfl)
theorem dX6_goes_178 : decode cX6_goes 178 = .ok (.iadd, 1) := dk_96 (dk_at dksX6_goes_7 12 rfl rfl)
theorem dX6_goes_179 : decode cX6_goes 179 = .ok (.aload_n 0, 1) := dk_42 (dk_at dksX6_goes_7 13 rfl rfl)
theorem dX6_goes_180 : decode cX6_goes 180 = .ok (.iconst 1, 1) := dk_4 (dk_at dksX6_goes_7 14 rfl rfl)
theorem dX6_goes_181 : decode cX6_goes 181 = .ok (.invokevirtual 138, 3) := dk_182 0 138 (dk_at dksX6_goes_7 15 rfl rfl)
theorem dX6_goes_184 : decode cX6_goes 184 = .ok (.iastore, 1) := dk_79 (dk_at dksX6_goes_7 18 rfl rfl)
theorem dX6_goes_185 : decode cX6_goes 185 = .ok (.iconst 0, 1) := dk_3 (dk_at dksX6_goes_7 19 rfl rfl)
theorem dX6_goes_186 : decode cX6_goes 186 = .ok (.istore 5, 2) := dk_54 5 (dk_at dksX6_goes_7 20 rfl rfl)
theorem dX6_goes_188 : decode cX6_goes 188 = .ok (.iload 5, 2) := dk_21 5 (dk_at dksX6_goes_7 22 rfl rfl)
theorem dX6_goes_190 : decode cX6_goes 190 = .ok (.aload_n 0, 1) := dk_42 (dk_at dksX6_goes_8 0 rfl rfl)
theorem dX6_goes_191 : decode cX6_goes 191 = .ok (.getfield 141, 3) := dk_180 0 141 (dk_at dksX6_goes_8 1 rfl rfl)
theorem dX6_goes_194 : decode cX6_goes 194 = .ok (.if_icmp .ge 28, 3) := dk_162 0 28 (dk_at dksX6_goes_8 4 rfl rfl)
theorem dX6_goes_197 : decode cX6_goes 197 = .ok (.aload_n 0, 1) := dk_42 (dk_at dksX6_goes_8 7 rfl rfl)
theorem dX6_goes_198 : decode cX6_goes 198 = .ok (.getfield 35, 3) := dk_180 0 35 (dk_at dksX6_goes_8 8 rfl rfl)
theorem dX6_goes_201 : decode cX6_goes 201 = .ok (.bipush 8, 2) := dk_16 8 (dk_at dksX6_goes_8 11 rfl rfl)
theorem dX6_goes_203 : decode cX6_goes 203 = .ok (.iload_n 3, 1) := dk_29 (dk_at dksX6_goes_8 13 rfl rfl)
theorem dX6_goes_204 : decode cX6_goes 204 = .ok (.imul, 1) := dk_104 (dk_at dksX6_goes_8 14 rfl rfl)
theorem dX6_goes_205 : decode cX6_goes 205 = .ok (.iload 5, 2) := dk_21 5 (dk_at dksX6_goes_8 15 rfl rfl)
theorem dX6_goes_207 : decode cX6_goes 207 = .ok (.iadd, 1) := dk_96 (dk_at dksX6_goes_8 17 rfl rfl)
theorem dX6_goes_208 : decode cX6_goes 208 = .ok (.aload_n 0, 1) := dk_42 (dk_at dksX6_goes_8 18 rfl rfl)
theorem dX6_goes_209 : decode cX6_goes 209 = .ok (.getfield 56, 3) := dk_180 0 56 (dk_at dksX6_goes_8 19 rfl rfl)
theorem dX6_goes_212 : decode cX6_goes 212 = .ok (.iload 5, 2) := dk_21 5 (dk_at dksX6_goes_8 22 rfl rfl)
theorem dX6_goes_214 : decode cX6_goes 214 = .ok (.iaload, 1) := dk_46 (dk_at dksX6_goes_9 0 rfl rfl)
theorem dX6_goes_215 : decode cX6_goes 215 = .ok (.iastore, 1) := dk_79 (dk_at dksX6_goes_9 1 rfl rfl)
theorem dX6_goes_216 : decode cX6_goes 216 = .ok (.iinc 5 1, 3) := dk_132 5 1 (dk_at dksX6_goes_9 2 rfl rfl)
theorem dX6_goes_219 : decode cX6_goes 219 = .ok (.goto (-31), 3) := dk_167 255 225 (dk_at dksX6_goes_9 5 rfl rfl)
theorem dX6_goes_222 : decode cX6_goes 222 = .ok (.iconst 1, 1) := dk_4 (dk_at dksX6_goes_9 8 rfl rfl)
theorem dX6_goes_223 : decode cX6_goes 223 = .ok (.ireturn, 1) := dk_172 (dk_at dksX6_goes_9 9 rfl rfl)
abbrev cX6_mayChoose : ByteArray := prog_14_method_29_code
def yX6_mayChoose : MethodName := ⟨RX6, "mayChoose", "(I)Z"⟩
def dkwX6_mayChoose_0 : List UInt8 := [27, 2, 159, 0, 12, 42, 180, 0, 20, 27, 46, 154, 0, 7, 4, 167, 0, 4, 3, 172]
abbrev dktX6_mayChoose_0 : List UInt8 := dkwX6_mayChoose_0 ++ []
theorem dksX6_mayChoose_0 : cX6_mayChoose.data.toList.drop 0 = dktX6_mayChoose_0 := by decide +kernel
theorem dX6_mayChoose_0 : decode cX6_mayChoose 0 = .ok (.iload_n 1, 1) := dk_27 (dk_at dksX6_mayChoose_0 0 rfl rfl)
theorem dX6_mayChoose_1 : decode cX6_mayChoose 1 = .ok (.iconst (-1), 1) := dk_2 (dk_at dksX6_mayChoose_0 1 rfl rfl)
theorem dX6_mayChoose_2 : decode cX6_mayChoose 2 = .ok (.if_icmp .eq 12, 3) := dk_159 0 12 (dk_at dksX6_mayChoose_0 2 rfl rfl)
theorem dX6_mayChoose_5 : decode cX6_mayChoose 5 = .ok (.aload_n 0, 1) := dk_42 (dk_at dksX6_mayChoose_0 5 rfl rfl)
theorem dX6_mayChoose_6 : decode cX6_mayChoose 6 = .ok (.getfield 20, 3) := dk_180 0 20 (dk_at dksX6_mayChoose_0 6 rfl rfl)
theorem dX6_mayChoose_9 : decode cX6_mayChoose 9 = .ok (.iload_n 1, 1) := dk_27 (dk_at dksX6_mayChoose_0 9 rfl rfl)
theorem dX6_mayChoose_10 : decode cX6_mayChoose 10 = .ok (.iaload, 1) := dk_46 (dk_at dksX6_mayChoose_0 10 rfl rfl)
theorem dX6_mayChoose_11 : decode cX6_mayChoose 11 = .ok (.ifCond .ne 7, 3) := dk_154 0 7 (dk_at dksX6_mayChoose_0 11 rfl rfl)
theorem dX6_mayChoose_14 : decode cX6_mayChoose 14 = .ok (.iconst 1, 1) := dk_4 (dk_at dksX6_mayChoose_0 14 rfl rfl)
theorem dX6_mayChoose_15 : decode cX6_mayChoose 15 = .ok (.goto 4, 3) := dk_167 0 4 (dk_at dksX6_mayChoose_0 15 rfl rfl)
theorem dX6_mayChoose_18 : decode cX6_mayChoose 18 = .ok (.iconst 0, 1) := dk_3 (dk_at dksX6_mayChoose_0 18 rfl rfl)
theorem dX6_mayChoose_19 : decode cX6_mayChoose 19 = .ok (.ireturn, 1) := dk_172 (dk_at dksX6_mayChoose_0 19 rfl rfl)
abbrev cX6_reports : ByteArray := prog_14_method_31_code
def yX6_reports : MethodName := ⟨RX6, "reports", "(II)V"⟩
def dkwX6_reports_6 : List UInt8 := [181, 0, 154, 177]
abbrev dktX6_reports_6 : List UInt8 := dkwX6_reports_6 ++ []
def dkwX6_reports_5 : List UInt8 := [180, 0, 20, 16, 49, 28, 96, 46, 104, 42, 180, 0, 20, 16, 98, 28, 96, 46, 96, 46, 79, 42, 7]
abbrev dktX6_reports_5 : List UInt8 := dkwX6_reports_5 ++ dktX6_reports_6
def dkwX6_reports_4 : List UInt8 := [180, 0, 20, 16, 98, 28, 96, 46, 96, 79, 42, 180, 0, 62, 6, 42, 180, 0, 35, 16, 8, 42]
abbrev dktX6_reports_4 : List UInt8 := dkwX6_reports_4 ++ dktX6_reports_5
def dkwX6_reports_3 : List UInt8 := [181, 0, 154, 42, 180, 0, 20, 16, 98, 28, 96, 46, 156, 0, 4, 177, 42, 180, 0, 59, 6, 16, 20, 42]
abbrev dktX6_reports_3 : List UInt8 := dkwX6_reports_3 ++ dktX6_reports_4
def dkwX6_reports_2 : List UInt8 := [180, 0, 20, 28, 46, 96, 79, 42, 180, 0, 62, 5, 42, 180, 0, 20, 16, 49, 28, 96, 46, 79, 42, 6]
abbrev dktX6_reports_2 : List UInt8 := dkwX6_reports_2 ++ dktX6_reports_3
def dkwX6_reports_1 : List UInt8 := [180, 0, 59, 4, 5, 27, 96, 79, 42, 180, 0, 62, 4, 28, 79, 42, 180, 0, 59, 5, 16, 10, 42]
abbrev dktX6_reports_1 : List UInt8 := dkwX6_reports_1 ++ dktX6_reports_2
def dkwX6_reports_0 : List UInt8 := [42, 180, 0, 59, 3, 4, 79, 42, 180, 0, 62, 3, 42, 180, 0, 20, 17, 0, 153, 46, 79, 42]
abbrev dktX6_reports_0 : List UInt8 := dkwX6_reports_0 ++ dktX6_reports_1
theorem dksX6_reports_0 : cX6_reports.data.toList.drop 0 = dktX6_reports_0 := by decide +kernel
theorem dksX6_reports_1 : cX6_reports.data.toList.drop 22 = dktX6_reports_1 := dk_seg dksX6_reports_0 22 rfl rfl
theorem dksX6_reports_2 : cX6_reports.data.toList.drop 45 = dktX6_reports_2 := dk_seg dksX6_reports_1 23 rfl rfl
theorem dksX6_reports_3 : cX6_reports.data.toList.drop 69 = dktX6_reports_3 := dk_seg dksX6_reports_2 24 rfl rfl
theorem dksX6_reports_4 : cX6_reports.data.toList.drop 93 = dktX6_reports_4 := dk_seg dksX6_reports_3 24 rfl rfl
theorem dksX6_reports_5 : cX6_reports.data.toList.drop 115 = dktX6_reports_5 := dk_seg dksX6_reports_4 22 rfl rfl
theorem dksX6_reports_6 : cX6_reports.data.toList.drop 138 = dktX6_reports_6 := dk_seg dksX6_reports_5 23 rfl rfl
theorem dX6_reports_0 : decode cX6_reports 0 = .ok (.aload_n 0, 1) := dk_42 (dk_at dksX6_reports_0 0 rfl rfl)
theorem dX6_reports_1 : decode cX6_reports 1 = .ok (.getfield 59, 3) := dk_180 0 59 (dk_at dksX6_reports_0 1 rfl rfl)
theorem dX6_reports_4 : decode cX6_reports 4 = .ok (.iconst 0, 1) := dk_3 (dk_at dksX6_reports_0 4 rfl rfl)
theorem dX6_reports_5 : decode cX6_reports 5 = .ok (.iconst 1, 1) := dk_4 (dk_at dksX6_reports_0 5 rfl rfl)
theorem dX6_reports_6 : decode cX6_reports 6 = .ok (.iastore, 1) := dk_79 (dk_at dksX6_reports_0 6 rfl rfl)
theorem dX6_reports_7 : decode cX6_reports 7 = .ok (.aload_n 0, 1) := dk_42 (dk_at dksX6_reports_0 7 rfl rfl)
theorem dX6_reports_8 : decode cX6_reports 8 = .ok (.getfield 62, 3) := dk_180 0 62 (dk_at dksX6_reports_0 8 rfl rfl)
theorem dX6_reports_11 : decode cX6_reports 11 = .ok (.iconst 0, 1) := dk_3 (dk_at dksX6_reports_0 11 rfl rfl)
theorem dX6_reports_12 : decode cX6_reports 12 = .ok (.aload_n 0, 1) := dk_42 (dk_at dksX6_reports_0 12 rfl rfl)
theorem dX6_reports_13 : decode cX6_reports 13 = .ok (.getfield 20, 3) := dk_180 0 20 (dk_at dksX6_reports_0 13 rfl rfl)
theorem dX6_reports_16 : decode cX6_reports 16 = .ok (.sipush 153, 3) := dk_17 0 153 (dk_at dksX6_reports_0 16 rfl rfl)
theorem dX6_reports_19 : decode cX6_reports 19 = .ok (.iaload, 1) := dk_46 (dk_at dksX6_reports_0 19 rfl rfl)
theorem dX6_reports_20 : decode cX6_reports 20 = .ok (.iastore, 1) := dk_79 (dk_at dksX6_reports_0 20 rfl rfl)
theorem dX6_reports_21 : decode cX6_reports 21 = .ok (.aload_n 0, 1) := dk_42 (dk_at dksX6_reports_0 21 rfl rfl)
theorem dX6_reports_22 : decode cX6_reports 22 = .ok (.getfield 59, 3) := dk_180 0 59 (dk_at dksX6_reports_1 0 rfl rfl)
theorem dX6_reports_25 : decode cX6_reports 25 = .ok (.iconst 1, 1) := dk_4 (dk_at dksX6_reports_1 3 rfl rfl)
theorem dX6_reports_26 : decode cX6_reports 26 = .ok (.iconst 2, 1) := dk_5 (dk_at dksX6_reports_1 4 rfl rfl)
theorem dX6_reports_27 : decode cX6_reports 27 = .ok (.iload_n 1, 1) := dk_27 (dk_at dksX6_reports_1 5 rfl rfl)
theorem dX6_reports_28 : decode cX6_reports 28 = .ok (.iadd, 1) := dk_96 (dk_at dksX6_reports_1 6 rfl rfl)
theorem dX6_reports_29 : decode cX6_reports 29 = .ok (.iastore, 1) := dk_79 (dk_at dksX6_reports_1 7 rfl rfl)
theorem dX6_reports_30 : decode cX6_reports 30 = .ok (.aload_n 0, 1) := dk_42 (dk_at dksX6_reports_1 8 rfl rfl)
theorem dX6_reports_31 : decode cX6_reports 31 = .ok (.getfield 62, 3) := dk_180 0 62 (dk_at dksX6_reports_1 9 rfl rfl)
theorem dX6_reports_34 : decode cX6_reports 34 = .ok (.iconst 1, 1) := dk_4 (dk_at dksX6_reports_1 12 rfl rfl)
theorem dX6_reports_35 : decode cX6_reports 35 = .ok (.iload_n 2, 1) := dk_28 (dk_at dksX6_reports_1 13 rfl rfl)
theorem dX6_reports_36 : decode cX6_reports 36 = .ok (.iastore, 1) := dk_79 (dk_at dksX6_reports_1 14 rfl rfl)
theorem dX6_reports_37 : decode cX6_reports 37 = .ok (.aload_n 0, 1) := dk_42 (dk_at dksX6_reports_1 15 rfl rfl)
theorem dX6_reports_38 : decode cX6_reports 38 = .ok (.getfield 59, 3) := dk_180 0 59 (dk_at dksX6_reports_1 16 rfl rfl)
theorem dX6_reports_41 : decode cX6_reports 41 = .ok (.iconst 2, 1) := dk_5 (dk_at dksX6_reports_1 19 rfl rfl)
theorem dX6_reports_42 : decode cX6_reports 42 = .ok (.bipush 10, 2) := dk_16 10 (dk_at dksX6_reports_1 20 rfl rfl)
theorem dX6_reports_44 : decode cX6_reports 44 = .ok (.aload_n 0, 1) := dk_42 (dk_at dksX6_reports_1 22 rfl rfl)
theorem dX6_reports_45 : decode cX6_reports 45 = .ok (.getfield 20, 3) := dk_180 0 20 (dk_at dksX6_reports_2 0 rfl rfl)
theorem dX6_reports_48 : decode cX6_reports 48 = .ok (.iload_n 2, 1) := dk_28 (dk_at dksX6_reports_2 3 rfl rfl)
theorem dX6_reports_49 : decode cX6_reports 49 = .ok (.iaload, 1) := dk_46 (dk_at dksX6_reports_2 4 rfl rfl)
theorem dX6_reports_50 : decode cX6_reports 50 = .ok (.iadd, 1) := dk_96 (dk_at dksX6_reports_2 5 rfl rfl)
theorem dX6_reports_51 : decode cX6_reports 51 = .ok (.iastore, 1) := dk_79 (dk_at dksX6_reports_2 6 rfl rfl)
theorem dX6_reports_52 : decode cX6_reports 52 = .ok (.aload_n 0, 1) := dk_42 (dk_at dksX6_reports_2 7 rfl rfl)
theorem dX6_reports_53 : decode cX6_reports 53 = .ok (.getfield 62, 3) := dk_180 0 62 (dk_at dksX6_reports_2 8 rfl rfl)
theorem dX6_reports_56 : decode cX6_reports 56 = .ok (.iconst 2, 1) := dk_5 (dk_at dksX6_reports_2 11 rfl rfl)
theorem dX6_reports_57 : decode cX6_reports 57 = .ok (.aload_n 0, 1) := dk_42 (dk_at dksX6_reports_2 12 rfl rfl)
theorem dX6_reports_58 : decode cX6_reports 58 = .ok (.getfield 20, 3) := dk_180 0 20 (dk_at dksX6_reports_2 13 rfl rfl)
theorem dX6_reports_61 : decode cX6_reports 61 = .ok (.bipush 49, 2) := dk_16 49 (dk_at dksX6_reports_2 16 rfl rfl)
theorem dX6_reports_63 : decode cX6_reports 63 = .ok (.iload_n 2, 1) := dk_28 (dk_at dksX6_reports_2 18 rfl rfl)
theorem dX6_reports_64 : decode cX6_reports 64 = .ok (.iadd, 1) := dk_96 (dk_at dksX6_reports_2 19 rfl rfl)
theorem dX6_reports_65 : decode cX6_reports 65 = .ok (.iaload, 1) := dk_46 (dk_at dksX6_reports_2 20 rfl rfl)
theorem dX6_reports_66 : decode cX6_reports 66 = .ok (.iastore, 1) := dk_79 (dk_at dksX6_reports_2 21 rfl rfl)
theorem dX6_reports_67 : decode cX6_reports 67 = .ok (.aload_n 0, 1) := dk_42 (dk_at dksX6_reports_2 22 rfl rfl)
theorem dX6_reports_68 : decode cX6_reports 68 = .ok (.iconst 3, 1) := dk_6 (dk_at dksX6_reports_2 23 rfl rfl)
theorem dX6_reports_69 : decode cX6_reports 69 = .ok (.putfield 154, 3) := dk_181 0 154 (dk_at dksX6_reports_3 0 rfl rfl)
theorem dX6_reports_72 : decode cX6_reports 72 = .ok (.aload_n 0, 1) := dk_42 (dk_at dksX6_reports_3 3 rfl rfl)
theorem dX6_reports_73 : decode cX6_reports 73 = .ok (.getfield 20, 3) := dk_180 0 20 (dk_at dksX6_reports_3 4 rfl rfl)
theorem dX6_reports_76 : decode cX6_reports 76 = .ok (.bipush 98, 2) := dk_16 98 (dk_at dksX6_reports_3 7 rfl rfl)
theorem dX6_reports_78 : decode cX6_reports 78 = .ok (.iload_n 2, 1) := dk_28 (dk_at dksX6_reports_3 9 rfl rfl)
theorem dX6_reports_79 : decode cX6_reports 79 = .ok (.iadd, 1) := dk_96 (dk_at dksX6_reports_3 10 rfl rfl)
theorem dX6_reports_80 : decode cX6_reports 80 = .ok (.iaload, 1) := dk_46 (dk_at dksX6_reports_3 11 rfl rfl)
theorem dX6_reports_81 : decode cX6_reports 81 = .ok (.ifCond .ge 4, 3) := dk_156 0 4 (dk_at dksX6_reports_3 12 rfl rfl)
theorem dX6_reports_84 : decode cX6_reports 84 = .ok (.return_, 1) := dk_177 (dk_at dksX6_reports_3 15 rfl rfl)
theorem dX6_reports_85 : decode cX6_reports 85 = .ok (.aload_n 0, 1) := dk_42 (dk_at dksX6_reports_3 16 rfl rfl)
theorem dX6_reports_86 : decode cX6_reports 86 = .ok (.getfield 59, 3) := dk_180 0 59 (dk_at dksX6_reports_3 17 rfl rfl)
theorem dX6_reports_89 : decode cX6_reports 89 = .ok (.iconst 3, 1) := dk_6 (dk_at dksX6_reports_3 20 rfl rfl)
theorem dX6_reports_90 : decode cX6_reports 90 = .ok (.bipush 20, 2) := dk_16 20 (dk_at dksX6_reports_3 21 rfl rfl)
theorem dX6_reports_92 : decode cX6_reports 92 = .ok (.aload_n 0, 1) := dk_42 (dk_at dksX6_reports_3 23 rfl rfl)
theorem dX6_reports_93 : decode cX6_reports 93 = .ok (.getfield 20, 3) := dk_180 0 20 (dk_at dksX6_reports_4 0 rfl rfl)
theorem dX6_reports_96 : decode cX6_reports 96 = .ok (.bipush 98, 2) := dk_16 98 (dk_at dksX6_reports_4 3 rfl rfl)
theorem dX6_reports_98 : decode cX6_reports 98 = .ok (.iload_n 2, 1) := dk_28 (dk_at dksX6_reports_4 5 rfl rfl)
theorem dX6_reports_99 : decode cX6_reports 99 = .ok (.iadd, 1) := dk_96 (dk_at dksX6_reports_4 6 rfl rfl)
theorem dX6_reports_100 : decode cX6_reports 100 = .ok (.iaload, 1) := dk_46 (dk_at dksX6_reports_4 7 rfl rfl)
theorem dX6_reports_101 : decode cX6_reports 101 = .ok (.iadd, 1) := dk_96 (dk_at dksX6_reports_4 8 rfl rfl)
theorem dX6_reports_102 : decode cX6_reports 102 = .ok (.iastore, 1) := dk_79 (dk_at dksX6_reports_4 9 rfl rfl)
theorem dX6_reports_103 : decode cX6_reports 103 = .ok (.aload_n 0, 1) := dk_42 (dk_at dksX6_reports_4 10 rfl rfl)
theorem dX6_reports_104 : decode cX6_reports 104 = .ok (.getfield 62, 3) := dk_180 0 62 (dk_at dksX6_reports_4 11 rfl rfl)
theorem dX6_reports_107 : decode cX6_reports 107 = .ok (.iconst 3, 1) := dk_6 (dk_at dksX6_reports_4 14 rfl rfl)
theorem dX6_reports_108 : decode cX6_reports 108 = .ok (.aload_n 0, 1) := dk_42 (dk_at dksX6_reports_4 15 rfl rfl)
theorem dX6_reports_109 : decode cX6_reports 109 = .ok (.getfield 35, 3) := dk_180 0 35 (dk_at dksX6_reports_4 16 rfl rfl)
theorem dX6_reports_112 : decode cX6_reports 112 = .ok (.bipush 8, 2) := dk_16 8 (dk_at dksX6_reports_4 19 rfl rfl)
theorem dX6_reports_114 : decode cX6_reports 114 = .ok (.aload_n 0, 1) := dk_42 (dk_at dksX6_reports_4 21 rfl rfl)
theorem dX6_reports_115 : decode cX6_reports 115 = .ok (.getfield 20, 3) := dk_180 0 20 (dk_at dksX6_reports_5 0 rfl rfl)
theorem dX6_reports_118 : decode cX6_reports 118 = .ok (.bipush 49, 2) := dk_16 49 (dk_at dksX6_reports_5 3 rfl rfl)
theorem dX6_reports_120 : decode cX6_reports 120 = .ok (.iload_n 2, 1) := dk_28 (dk_at dksX6_reports_5 5 rfl rfl)
theorem dX6_reports_121 : decode cX6_reports 121 = .ok (.iadd, 1) := dk_96 (dk_at dksX6_reports_5 6 rfl rfl)
theorem dX6_reports_122 : decode cX6_reports 122 = .ok (.iaload, 1) := dk_46 (dk_at dksX6_reports_5 7 rfl rfl)
theorem dX6_reports_123 : decode cX6_reports 123 = .ok (.imul, 1) := dk_104 (dk_at dksX6_reports_5 8 rfl rfl)
theorem dX6_reports_124 : decode cX6_reports 124 = .ok (.aload_n 0, 1) := dk_42 (dk_at dksX6_reports_5 9 rfl rfl)
theorem dX6_reports_125 : decode cX6_reports 125 = .ok (.getfield 20, 3) := dk_180 0 20 (dk_at dksX6_reports_5 10 rfl rfl)
theorem dX6_reports_128 : decode cX6_reports 128 = .ok (.bipush 98, 2) := dk_16 98 (dk_at dksX6_reports_5 13 rfl rfl)
theorem dX6_reports_130 : decode cX6_reports 130 = .ok (.iload_n 2, 1) := dk_28 (dk_at dksX6_reports_5 15 rfl rfl)
theorem dX6_reports_131 : decode cX6_reports 131 = .ok (.iadd, 1) := dk_96 (dk_at dksX6_reports_5 16 rfl rfl)
theorem dX6_reports_132 : decode cX6_reports 132 = .ok (.iaload, 1) := dk_46 (dk_at dksX6_reports_5 17 rfl rfl)
theorem dX6_reports_133 : decode cX6_reports 133 = .ok (.iadd, 1) := dk_96 (dk_at dksX6_reports_5 18 rfl rfl)
theorem dX6_reports_134 : decode cX6_reports 134 = .ok (.iaload, 1) := dk_46 (dk_at dksX6_reports_5 19 rfl rfl)
theorem dX6_reports_135 : decode cX6_reports 135 = .ok (.iastore, 1) := dk_79 (dk_at dksX6_reports_5 20 rfl rfl)
theorem dX6_reports_136 : decode cX6_reports 136 = .ok (.aload_n 0, 1) := dk_42 (dk_at dksX6_reports_5 21 rfl rfl)
theorem dX6_reports_137 : decode cX6_reports 137 = .ok (.iconst 4, 1) := dk_7 (dk_at dksX6_reports_5 22 rfl rfl)
theorem dX6_reports_138 : decode cX6_reports 138 = .ok (.putfield 154, 3) := dk_181 0 154 (dk_at dksX6_reports_6 0 rfl rfl)
theorem dX6_reports_141 : decode cX6_reports 141 = .ok (.return_, 1) := dk_177 (dk_at dksX6_reports_6 3 rfl rfl)
abbrev cX6_plays : ByteArray := prog_14_method_28_code
def yX6_plays : MethodName := ⟨RX6, "plays", "(II)V"⟩
def dkwX6_plays_13 : List UInt8 := [180, 0, 20, 17, 0, 153, 92, 46, 4, 96, 79, 177]
abbrev dktX6_plays_13 : List UInt8 := dkwX6_plays_13 ++ []
def dkwX6_plays_12 : List UInt8 := [180, 0, 20, 17, 0, 154, 27, 2, 160, 0, 12, 28, 2, 160, 0, 7, 4, 167, 0, 4, 3, 79, 42]
abbrev dktX6_plays_12 : List UInt8 := dkwX6_plays_12 ++ dktX6_plays_13
def dkwX6_plays_11 : List UInt8 := [96, 181, 0, 141, 167, 255, 183, 42, 180, 0, 20, 17, 0, 152, 92, 46, 42, 180, 0, 141, 96, 79, 42]
abbrev dktX6_plays_11 : List UInt8 := dkwX6_plays_11 ++ dktX6_plays_12
def dkwX6_plays_10 : List UInt8 := [42, 180, 0, 141, 21, 4, 79, 42, 89, 180, 0, 144, 21, 4, 96, 181, 0, 144, 42, 89, 180, 0, 141, 4]
abbrev dktX6_plays_10 : List UInt8 := dkwX6_plays_10 ++ dktX6_plays_11
def dkwX6_plays_9 : List UInt8 := [54, 4, 21, 4, 158, 0, 7, 4, 167, 0, 4, 3, 62, 29, 154, 0, 6, 167, 255, 218, 42, 180, 0, 56]
abbrev dktX6_plays_9 : List UInt8 := dkwX6_plays_9 ++ dktX6_plays_10
def dkwX6_plays_8 : List UInt8 := [4, 62, 29, 153, 0, 75, 42, 180, 0, 141, 16, 8, 162, 0, 66, 42, 42, 180, 0, 141, 182, 0, 147]
abbrev dktX6_plays_8 : List UInt8 := dkwX6_plays_8 ++ dktX6_plays_9
def dkwX6_plays_7 : List UInt8 := [180, 0, 20, 17, 0, 151, 92, 46, 42, 180, 0, 135, 96, 79, 42, 3, 181, 0, 141, 42, 3, 181, 0, 144]
abbrev dktX6_plays_7 : List UInt8 := dkwX6_plays_7 ++ dktX6_plays_8
def dkwX6_plays_6 : List UInt8 := [42, 180, 0, 20, 17, 0, 150, 92, 46, 28, 2, 160, 0, 7, 4, 167, 0, 4, 3, 96, 79, 42]
abbrev dktX6_plays_6 : List UInt8 := dkwX6_plays_6 ++ dktX6_plays_7
def dkwX6_plays_5 : List UInt8 := [182, 0, 131, 42, 180, 0, 20, 17, 0, 149, 92, 46, 27, 2, 160, 0, 7, 4, 167, 0, 4, 3, 96, 79]
abbrev dktX6_plays_5 : List UInt8 := dkwX6_plays_5 ++ dktX6_plays_6
def dkwX6_plays_4 : List UInt8 := [167, 0, 27, 27, 2, 159, 0, 10, 42, 27, 4, 2, 182, 0, 131, 28, 2, 159, 0, 10, 42, 28, 5, 2]
abbrev dktX6_plays_4 : List UInt8 := dkwX6_plays_4 ++ dktX6_plays_5
def dkwX6_plays_3 : List UInt8 := [180, 0, 88, 5, 160, 0, 20, 42, 27, 29, 21, 4, 162, 0, 7, 4, 167, 0, 4, 5, 2, 182, 0, 131]
abbrev dktX6_plays_3 : List UInt8 := dkwX6_plays_3 ++ dktX6_plays_4
def dkwX6_plays_2 : List UInt8 := [180, 0, 88, 5, 160, 0, 19, 29, 21, 4, 160, 0, 13, 42, 27, 8, 2, 182, 0, 131, 167, 0, 28, 42]
abbrev dktX6_plays_2 : List UInt8 := dkwX6_plays_2 ++ dktX6_plays_3
def dkwX6_plays_1 : List UInt8 := [160, 0, 75, 42, 3, 182, 0, 138, 62, 42, 4, 182, 0, 138, 54, 4, 42, 180, 0, 88, 153, 0, 17, 42]
abbrev dktX6_plays_1 : List UInt8 := dkwX6_plays_1 ++ dktX6_plays_2
def dkwX6_plays_0 : List UInt8 := [42, 27, 28, 160, 0, 12, 27, 2, 159, 0, 7, 4, 167, 0, 4, 3, 181, 0, 135, 42, 180, 0, 135, 4]
abbrev dktX6_plays_0 : List UInt8 := dkwX6_plays_0 ++ dktX6_plays_1
theorem dksX6_plays_0 : cX6_plays.data.toList.drop 0 = dktX6_plays_0 := by decide +kernel
theorem dksX6_plays_1 : cX6_plays.data.toList.drop 24 = dktX6_plays_1 := dk_seg dksX6_plays_0 24 rfl rfl
theorem dksX6_plays_2 : cX6_plays.data.toList.drop 48 = dktX6_plays_2 := dk_seg dksX6_plays_1 24 rfl rfl
theorem dksX6_plays_3 : cX6_plays.data.toList.drop 72 = dktX6_plays_3 := dk_seg dksX6_plays_2 24 rfl rfl
theorem dksX6_plays_4 : cX6_plays.data.toList.drop 96 = dktX6_plays_4 := dk_seg dksX6_plays_3 24 rfl rfl
theorem dksX6_plays_5 : cX6_plays.data.toList.drop 120 = dktX6_plays_5 := dk_seg dksX6_plays_4 24 rfl rfl
theorem dksX6_plays_6 : cX6_plays.data.toList.drop 144 = dktX6_plays_6 := dk_seg dksX6_plays_5 24 rfl rfl
theorem dksX6_plays_7 : cX6_plays.data.toList.drop 166 = dktX6_plays_7 := dk_seg dksX6_plays_6 22 rfl rfl
theorem dksX6_plays_8 : cX6_plays.data.toList.drop 190 = dktX6_plays_8 := dk_seg dksX6_plays_7 24 rfl rfl
theorem dksX6_plays_9 : cX6_plays.data.toList.drop 213 = dktX6_plays_9 := dk_seg dksX6_plays_8 23 rfl rfl
theorem dksX6_plays_10 : cX6_plays.data.toList.drop 237 = dktX6_plays_10 := dk_seg dksX6_plays_9 24 rfl rfl
theorem dksX6_plays_11 : cX6_plays.data.toList.drop 261 = dktX6_plays_11 := dk_seg dksX6_plays_10 24 rfl rfl
theorem dksX6_plays_12 : cX6_plays.data.toList.drop 284 = dktX6_plays_12 := dk_seg dksX6_plays_11 23 rfl rfl
theorem dksX6_plays_13 : cX6_plays.data.toList.drop 307 = dktX6_plays_13 := dk_seg dksX6_plays_12 23 rfl rfl
theorem dX6_plays_0 : decode cX6_plays 0 = .ok (.aload_n 0, 1) := dk_42 (dk_at dksX6_plays_0 0 rfl rfl)
theorem dX6_plays_1 : decode cX6_plays 1 = .ok (.iload_n 1, 1) := dk_27 (dk_at dksX6_plays_0 1 rfl rfl)
theorem dX6_plays_2 : decode cX6_plays 2 = .ok (.iload_n 2, 1) := dk_28 (dk_at dksX6_plays_0 2 rfl rfl)
theorem dX6_plays_3 : decode cX6_plays 3 = .ok (.if_icmp .ne 12, 3) := dk_160 0 12 (dk_at dksX6_plays_0 3 rfl rfl)
theorem dX6_plays_6 : decode cX6_plays 6 = .ok (.iload_n 1, 1) := dk_27 (dk_at dksX6_plays_0 6 rfl rfl)
theorem dX6_plays_7 : decode cX6_plays 7 = .ok (.iconst (-1), 1) := dk_2 (dk_at dksX6_plays_0 7 rfl rfl)
theorem dX6_plays_8 : decode cX6_plays 8 = .ok (.if_icmp .eq 7, 3) := dk_159 0 7 (dk_at dksX6_plays_0 8 rfl rfl)
theorem dX6_plays_11 : decode cX6_plays 11 = .ok (.iconst 1, 1) := dk_4 (dk_at dksX6_plays_0 11 rfl rfl)
theorem dX6_plays_12 : decode cX6_plays 12 = .ok (.goto 4, 3) := dk_167 0 4 (dk_at dksX6_plays_0 12 rfl rfl)
theorem dX6_plays_15 : decode cX6_plays 15 = .ok (.iconst 0, 1) := dk_3 (dk_at dksX6_plays_0 15 rfl rfl)
theorem dX6_plays_16 : decode cX6_plays 16 = .ok (.putfield 135, 3) := dk_181 0 135 (dk_at dksX6_plays_0 16 rfl rfl)
theorem dX6_plays_19 : decode cX6_plays 19 = .ok (.aload_n 0, 1) := dk_42 (dk_at dksX6_plays_0 19 rfl rfl)
theorem dX6_plays_20 : decode cX6_plays 20 = .ok (.getfield 135, 3) := dk_180 0 135 (dk_at dksX6_plays_0 20 rfl rfl)
theorem dX6_plays_23 : decode cX6_plays 23 = .ok (.iconst 1, 1) := dk_4 (dk_at dksX6_plays_0 23 rfl rfl)
theorem dX6_plays_24 : decode cX6_plays 24 = .ok (.if_icmp .ne 75, 3) := dk_160 0 75 (dk_at dksX6_plays_1 0 rfl rfl)
theorem dX6_plays_27 : decode cX6_plays 27 = .ok (.aload_n 0, 1) := dk_42 (dk_at dksX6_plays_1 3 rfl rfl)
theorem dX6_plays_28 : decode cX6_plays 28 = .ok (.iconst 0, 1) := dk_3 (dk_at dksX6_plays_1 4 rfl rfl)
theorem dX6_plays_29 : decode cX6_plays 29 = .ok (.invokevirtual 138, 3) := dk_182 0 138 (dk_at dksX6_plays_1 5 rfl rfl)
theorem dX6_plays_32 : decode cX6_plays 32 = .ok (.istore_n 3, 1) := dk_62 (dk_at dksX6_plays_1 8 rfl rfl)
theorem dX6_plays_33 : decode cX6_plays 33 = .ok (.aload_n 0, 1) := dk_42 (dk_at dksX6_plays_1 9 rfl rfl)
theorem dX6_plays_34 : decode cX6_plays 34 = .ok (.iconst 1, 1) := dk_4 (dk_at dksX6_plays_1 10 rfl rfl)
theorem dX6_plays_35 : decode cX6_plays 35 = .ok (.invokevirtual 138, 3) := dk_182 0 138 (dk_at dksX6_plays_1 11 rfl rfl)
theorem dX6_plays_38 : decode cX6_plays 38 = .ok (.istore 4, 2) := dk_54 4 (dk_at dksX6_plays_1 14 rfl rfl)
theorem dX6_plays_40 : decode cX6_plays 40 = .ok (.aload_n 0, 1) := dk_42 (dk_at dksX6_plays_1 16 rfl rfl)
theorem dX6_plays_41 : decode cX6_plays 41 = .ok (.getfield 88, 3) := dk_180 0 88 (dk_at dksX6_plays_1 17 rfl rfl)
theorem dX6_plays_44 : decode cX6_plays 44 = .ok (.ifCond .eq 17, 3) := dk_153 0 17 (dk_at dksX6_plays_1 20 rfl rfl)
theorem dX6_plays_47 : decode cX6_plays 47 = .ok (.aload_n 0, 1) := dk_42 (dk_at dksX6_plays_1 23 rfl rfl)
theorem dX6_plays_48 : decode cX6_plays 48 = .ok (.getfield 88, 3) := dk_180 0 88 (dk_at dksX6_plays_2 0 rfl rfl)
theorem dX6_plays_51 : decode cX6_plays 51 = .ok (.iconst 2, 1) := dk_5 (dk_at dksX6_plays_2 3 rfl rfl)
theorem dX6_plays_52 : decode cX6_plays 52 = .ok (.if_icmp .ne 19, 3) := dk_160 0 19 (dk_at dksX6_plays_2 4 rfl rfl)
theorem dX6_plays_55 : decode cX6_plays 55 = .ok (.iload_n 3, 1) := dk_29 (dk_at dksX6_plays_2 7 rfl rfl)
theorem dX6_plays_56 : decode cX6_plays 56 = .ok (.iload 4, 2) := dk_21 4 (dk_at dksX6_plays_2 8 rfl rfl)
theorem dX6_plays_58 : decode cX6_plays 58 = .ok (.if_icmp .ne 13, 3) := dk_160 0 13 (dk_at dksX6_plays_2 10 rfl rfl)
theorem dX6_plays_61 : decode cX6_plays 61 = .ok (.aload_n 0, 1) := dk_42 (dk_at dksX6_plays_2 13 rfl rfl)
theorem dX6_plays_62 : decode cX6_plays 62 = .ok (.iload_n 1, 1) := dk_27 (dk_at dksX6_plays_2 14 rfl rfl)
theorem dX6_plays_63 : decode cX6_plays 63 = .ok (.iconst 5, 1) := dk_8 (dk_at dksX6_plays_2 15 rfl rfl)
theorem dX6_plays_64 : decode cX6_plays 64 = .ok (.iconst (-1), 1) := dk_2 (dk_at dksX6_plays_2 16 rfl rfl)
theorem dX6_plays_65 : decode cX6_plays 65 = .ok (.invokevirtual 131, 3) := dk_182 0 131 (dk_at dksX6_plays_2 17 rfl rfl)
theorem dX6_plays_68 : decode cX6_plays 68 = .ok (.goto 28, 3) := dk_167 0 28 (dk_at dksX6_plays_2 20 rfl rfl)
theorem dX6_plays_71 : decode cX6_plays 71 = .ok (.aload_n 0, 1) := dk_42 (dk_at dksX6_plays_2 23 rfl rfl)
theorem dX6_plays_72 : decode cX6_plays 72 = .ok (.getfield 88, 3) := dk_180 0 88 (dk_at dksX6_plays_3 0 rfl rfl)
theorem dX6_plays_75 : decode cX6_plays 75 = .ok (.iconst 2, 1) := dk_5 (dk_at dksX6_plays_3 3 rfl rfl)
theorem dX6_plays_76 : decode cX6_plays 76 = .ok (.if_icmp .ne 20, 3) := dk_160 0 20 (dk_at dksX6_plays_3 4 rfl rfl)
theorem dX6_plays_79 : decode cX6_plays 79 = .ok (.aload_n 0, 1) := dk_42 (dk_at dksX6_plays_3 7 rfl rfl)
theorem dX6_plays_80 : decode cX6_plays 80 = .ok (.iload_n 1, 1) := dk_27 (dk_at dksX6_plays_3 8 rfl rfl)
theorem dX6_plays_81 : decode cX6_plays 81 = .ok (.iload_n 3, 1) := dk_29 (dk_at dksX6_plays_3 9 rfl rfl)
theorem dX6_plays_82 : decode cX6_plays 82 = .ok (.iload 4, 2) := dk_21 4 (dk_at dksX6_plays_3 10 rfl rfl)
theorem dX6_plays_84 : decode cX6_plays 84 = .ok (.if_icmp .ge 7, 3) := dk_162 0 7 (dk_at dksX6_plays_3 12 rfl rfl)
theorem dX6_plays_87 : decode cX6_plays 87 = .ok (.iconst 1, 1) := dk_4 (dk_at dksX6_plays_3 15 rfl rfl)
theorem dX6_plays_88 : decode cX6_plays 88 = .ok (.goto 4, 3) := dk_167 0 4 (dk_at dksX6_plays_3 16 rfl rfl)
theorem dX6_plays_91 : decode cX6_plays 91 = .ok (.iconst 2, 1) := dk_5 (dk_at dksX6_plays_3 19 rfl rfl)
theorem dX6_plays_92 : decode cX6_plays 92 = .ok (.iconst (-1), 1) := dk_2 (dk_at dksX6_plays_3 20 rfl rfl)
theorem dX6_plays_93 : decode cX6_plays 93 = .ok (.invokevirtual 131, 3) := dk_182 0 131 (dk_at dksX6_plays_3 21 rfl rfl)
theorem dX6_plays_96 : decode cX6_plays 96 = .ok (.goto 27, 3) := dk_167 0 27 (dk_at dksX6_plays_4 0 rfl rfl)
theorem dX6_plays_99 : decode cX6_plays 99 = .ok (.iload_n 1, 1) := dk_27 (dk_at dksX6_plays_4 3 rfl rfl)
theorem dX6_plays_100 : decode cX6_plays 100 = .ok (.iconst (-1), 1) := dk_2 (dk_at dksX6_plays_4 4 rfl rfl)
theorem dX6_plays_101 : decode cX6_plays 101 = .ok (.if_icmp .eq 10, 3) := dk_159 0 10 (dk_at dksX6_plays_4 5 rfl rfl)
theorem dX6_plays_104 : decode cX6_plays 104 = .ok (.aload_n 0, 1) := dk_42 (dk_at dksX6_plays_4 8 rfl rfl)
theorem dX6_plays_105 : decode cX6_plays 105 = .ok (.iload_n 1, 1) := dk_27 (dk_at dksX6_plays_4 9 rfl rfl)
theorem dX6_plays_106 : decode cX6_plays 106 = .ok (.iconst 1, 1) := dk_4 (dk_at dksX6_plays_4 10 rfl rfl)
theorem dX6_plays_107 : decode cX6_plays 107 = .ok (.iconst (-1), 1) := dk_2 (dk_at dksX6_plays_4 11 rfl rfl)
theorem dX6_plays_108 : decode cX6_plays 108 = .ok (.invokevirtual 131, 3) := dk_182 0 131 (dk_at dksX6_plays_4 12 rfl rfl)
theorem dX6_plays_111 : decode cX6_plays 111 = .ok (.iload_n 2, 1) := dk_28 (dk_at dksX6_plays_4 15 rfl rfl)
theorem dX6_plays_112 : decode cX6_plays 112 = .ok (.iconst (-1), 1) := dk_2 (dk_at dksX6_plays_4 16 rfl rfl)
theorem dX6_plays_113 : decode cX6_plays 113 = .ok (.if_icmp .eq 10, 3) := dk_159 0 10 (dk_at dksX6_plays_4 17 rfl rfl)
theorem dX6_plays_116 : decode cX6_plays 116 = .ok (.aload_n 0, 1) := dk_42 (dk_at dksX6_plays_4 20 rfl rfl)
theorem dX6_plays_117 : decode cX6_plays 117 = .ok (.iload_n 2, 1) := dk_28 (dk_at dksX6_plays_4 21 rfl rfl)
theorem dX6_plays_118 : decode cX6_plays 118 = .ok (.iconst 2, 1) := dk_5 (dk_at dksX6_plays_4 22 rfl rfl)
theorem dX6_plays_119 : decode cX6_plays 119 = .ok (.iconst (-1), 1) := dk_2 (dk_at dksX6_plays_4 23 rfl rfl)
theorem dX6_plays_120 : decode cX6_plays 120 = .ok (.invokevirtual 131, 3) := dk_182 0 131 (dk_at dksX6_plays_5 0 rfl rfl)
theorem dX6_plays_123 : decode cX6_plays 123 = .ok (.aload_n 0, 1) := dk_42 (dk_at dksX6_plays_5 3 rfl rfl)
theorem dX6_plays_124 : decode cX6_plays 124 = .ok (.getfield 20, 3) := dk_180 0 20 (dk_at dksX6_plays_5 4 rfl rfl)
theorem dX6_plays_127 : decode cX6_plays 127 = .ok (.sipush 149, 3) := dk_17 0 149 (dk_at dksX6_plays_5 7 rfl rfl)
theorem dX6_plays_130 : decode cX6_plays 130 = .ok (.dup2, 1) := dk_92 (dk_at dksX6_plays_5 10 rfl rfl)
theorem dX6_plays_131 : decode cX6_plays 131 = .ok (.iaload, 1) := dk_46 (dk_at dksX6_plays_5 11 rfl rfl)
theorem dX6_plays_132 : decode cX6_plays 132 = .ok (.iload_n 1, 1) := dk_27 (dk_at dksX6_plays_5 12 rfl rfl)
theorem dX6_plays_133 : decode cX6_plays 133 = .ok (.iconst (-1), 1) := dk_2 (dk_at dksX6_plays_5 13 rfl rfl)
theorem dX6_plays_134 : decode cX6_plays 134 = .ok (.if_icmp .ne 7, 3) := dk_160 0 7 (dk_at dksX6_plays_5 14 rfl rfl)
theorem dX6_plays_137 : decode cX6_plays 137 = .ok (.iconst 1, 1) := dk_4 (dk_at dksX6_plays_5 17 rfl rfl)
theorem dX6_plays_138 : decode cX6_plays 138 = .ok (.goto 4, 3) := dk_167 0 4 (dk_at dksX6_plays_5 18 rfl rfl)
theorem dX6_plays_141 : decode cX6_plays 141 = .ok (.iconst 0, 1) := dk_3 (dk_at dksX6_plays_5 21 rfl rfl)
theorem dX6_plays_142 : decode cX6_plays 142 = .ok (.iadd, 1) := dk_96 (dk_at dksX6_plays_5 22 rfl rfl)
theorem dX6_plays_143 : decode cX6_plays 143 = .ok (.iastore, 1) := dk_79 (dk_at dksX6_plays_5 23 rfl rfl)
theorem dX6_plays_144 : decode cX6_plays 144 = .ok (.aload_n 0, 1) := dk_42 (dk_at dksX6_plays_6 0 rfl rfl)
theorem dX6_plays_145 : decode cX6_plays 145 = .ok (.getfield 20, 3) := dk_180 0 20 (dk_at dksX6_plays_6 1 rfl rfl)
theorem dX6_plays_148 : decode cX6_plays 148 = .ok (.sipush 150, 3) := dk_17 0 150 (dk_at dksX6_plays_6 4 rfl rfl)
theorem dX6_plays_151 : decode cX6_plays 151 = .ok (.dup2, 1) := dk_92 (dk_at dksX6_plays_6 7 rfl rfl)
theorem dX6_plays_152 : decode cX6_plays 152 = .ok (.iaload, 1) := dk_46 (dk_at dksX6_plays_6 8 rfl rfl)
theorem dX6_plays_153 : decode cX6_plays 153 = .ok (.iload_n 2, 1) := dk_28 (dk_at dksX6_plays_6 9 rfl rfl)
theorem dX6_plays_154 : decode cX6_plays 154 = .ok (.iconst (-1), 1) := dk_2 (dk_at dksX6_plays_6 10 rfl rfl)
theorem dX6_plays_155 : decode cX6_plays 155 = .ok (.if_icmp .ne 7, 3) := dk_160 0 7 (dk_at dksX6_plays_6 11 rfl rfl)
theorem dX6_plays_158 : decode cX6_plays 158 = .ok (.iconst 1, 1) := dk_4 (dk_at dksX6_plays_6 14 rfl rfl)
theorem dX6_plays_159 : decode cX6_plays 159 = .ok (.goto 4, 3) := dk_167 0 4 (dk_at dksX6_plays_6 15 rfl rfl)
theorem dX6_plays_162 : decode cX6_plays 162 = .ok (.iconst 0, 1) := dk_3 (dk_at dksX6_plays_6 18 rfl rfl)
theorem dX6_plays_163 : decode cX6_plays 163 = .ok (.iadd, 1) := dk_96 (dk_at dksX6_plays_6 19 rfl rfl)
theorem dX6_plays_164 : decode cX6_plays 164 = .ok (.iastore, 1) := dk_79 (dk_at dksX6_plays_6 20 rfl rfl)
theorem dX6_plays_165 : decode cX6_plays 165 = .ok (.aload_n 0, 1) := dk_42 (dk_at dksX6_plays_6 21 rfl rfl)
theorem dX6_plays_166 : decode cX6_plays 166 = .ok (.getfield 20, 3) := dk_180 0 20 (dk_at dksX6_plays_7 0 rfl rfl)
theorem dX6_plays_169 : decode cX6_plays 169 = .ok (.sipush 151, 3) := dk_17 0 151 (dk_at dksX6_plays_7 3 rfl rfl)
theorem dX6_plays_172 : decode cX6_plays 172 = .ok (.dup2, 1) := dk_92 (dk_at dksX6_plays_7 6 rfl rfl)
theorem dX6_plays_173 : decode cX6_plays 173 = .ok (.iaload, 1) := dk_46 (dk_at dksX6_plays_7 7 rfl rfl)
theorem dX6_plays_174 : decode cX6_plays 174 = .ok (.aload_n 0, 1) := dk_42 (dk_at dksX6_plays_7 8 rfl rfl)
theorem dX6_plays_175 : decode cX6_plays 175 = .ok (.getfield 135, 3) := dk_180 0 135 (dk_at dksX6_plays_7 9 rfl rfl)
theorem dX6_plays_178 : decode cX6_plays 178 = .ok (.iadd, 1) := dk_96 (dk_at dksX6_plays_7 12 rfl rfl)
theorem dX6_plays_179 : decode cX6_plays 179 = .ok (.iastore, 1) := dk_79 (dk_at dksX6_plays_7 13 rfl rfl)
theorem dX6_plays_180 : decode cX6_plays 180 = .ok (.aload_n 0, 1) := dk_42 (dk_at dksX6_plays_7 14 rfl rfl)
theorem dX6_plays_181 : decode cX6_plays 181 = .ok (.iconst 0, 1) := dk_3 (dk_at dksX6_plays_7 15 rfl rfl)
theorem dX6_plays_182 : decode cX6_plays 182 = .ok (.putfield 141, 3) := dk_181 0 141 (dk_at dksX6_plays_7 16 rfl rfl)
theorem dX6_plays_185 : decode cX6_plays 185 = .ok (.aload_n 0, 1) := dk_42 (dk_at dksX6_plays_7 19 rfl rfl)
theorem dX6_plays_186 : decode cX6_plays 186 = .ok (.iconst 0, 1) := dk_3 (dk_at dksX6_plays_7 20 rfl rfl)
theorem dX6_plays_187 : decode cX6_plays 187 = .ok (.putfield 144, 3) := dk_181 0 144 (dk_at dksX6_plays_7 21 rfl rfl)
theorem dX6_plays_190 : decode cX6_plays 190 = .ok (.iconst 1, 1) := dk_4 (dk_at dksX6_plays_8 0 rfl rfl)
theorem dX6_plays_191 : decode cX6_plays 191 = .ok (.istore_n 3, 1) := dk_62 (dk_at dksX6_plays_8 1 rfl rfl)
theorem dX6_plays_192 : decode cX6_plays 192 = .ok (.iload_n 3, 1) := dk_29 (dk_at dksX6_plays_8 2 rfl rfl)
theorem dX6_plays_193 : decode cX6_plays 193 = .ok (.ifCond .eq 75, 3) := dk_153 0 75 (dk_at dksX6_plays_8 3 rfl rfl)
theorem dX6_plays_196 : decode cX6_plays 196 = .ok (.aload_n 0, 1) := dk_42 (dk_at dksX6_plays_8 6 rfl rfl)
theorem dX6_plays_197 : decode cX6_plays 197 = .ok (.getfield 141, 3) := dk_180 0 141 (dk_at dksX6_plays_8 7 rfl rfl)
theorem dX6_plays_200 : decode cX6_plays 200 = .ok (.bipush 8, 2) := dk_16 8 (dk_at dksX6_plays_8 10 rfl rfl)
theorem dX6_plays_202 : decode cX6_plays 202 = .ok (.if_icmp .ge 66, 3) := dk_162 0 66 (dk_at dksX6_plays_8 12 rfl rfl)
theorem dX6_plays_205 : decode cX6_plays 205 = .ok (.aload_n 0, 1) := dk_42 (dk_at dksX6_plays_8 15 rfl rfl)
theorem dX6_plays_206 : decode cX6_plays 206 = .ok (.aload_n 0, 1) := dk_42 (dk_at dksX6_plays_8 16 rfl rfl)
theorem dX6_plays_207 : decode cX6_plays 207 = .ok (.getfield 141, 3) := dk_180 0 141 (dk_at dksX6_plays_8 17 rfl rfl)
theorem dX6_plays_210 : decode cX6_plays 210 = .ok (.invokevirtual 147, 3) := dk_182 0 147 (dk_at dksX6_plays_8 20 rfl rfl)
theorem dX6_plays_213 : decode cX6_plays 213 = .ok (.istore 4, 2) := dk_54 4 (dk_at dksX6_plays_9 0 rfl rfl)
theorem dX6_plays_215 : decode cX6_plays 215 = .ok (.iload 4, 2) := dk_21 4 (dk_at dksX6_plays_9 2 rfl rfl)
theorem dX6_plays_217 : decode cX6_plays 217 = .ok (.ifCond .le 7, 3) := dk_158 0 7 (dk_at dksX6_plays_9 4 rfl rfl)
theorem dX6_plays_220 : decode cX6_plays 220 = .ok (.iconst 1, 1) := dk_4 (dk_at dksX6_plays_9 7 rfl rfl)
theorem dX6_plays_221 : decode cX6_plays 221 = .ok (.goto 4, 3) := dk_167 0 4 (dk_at dksX6_plays_9 8 rfl rfl)
theorem dX6_plays_224 : decode cX6_plays 224 = .ok (.iconst 0, 1) := dk_3 (dk_at dksX6_plays_9 11 rfl rfl)
theorem dX6_plays_225 : decode cX6_plays 225 = .ok (.istore_n 3, 1) := dk_62 (dk_at dksX6_plays_9 12 rfl rfl)
theorem dX6_plays_226 : decode cX6_plays 226 = .ok (.iload_n 3, 1) := dk_29 (dk_at dksX6_plays_9 13 rfl rfl)
theorem dX6_plays_227 : decode cX6_plays 227 = .ok (.ifCond .ne 6, 3) := dk_154 0 6 (dk_at dksX6_plays_9 14 rfl rfl)
theorem dX6_plays_230 : decode cX6_plays 230 = .ok (.goto (-38), 3) := dk_167 255 218 (dk_at dksX6_plays_9 17 rfl rfl)
theorem dX6_plays_233 : decode cX6_plays 233 = .ok (.aload_n 0, 1) := dk_42 (dk_at dksX6_plays_9 20 rfl rfl)
theorem dX6_plays_234 : decode cX6_plays 234 = .ok (.getfield 56, 3) := dk_180 0 56 (dk_at dksX6_plays_9 21 rfl rfl)
theorem dX6_plays_237 : decode cX6_plays 237 = .ok (.aload_n 0, 1) := dk_42 (dk_at dksX6_plays_10 0 rfl rfl)
theorem dX6_plays_238 : decode cX6_plays 238 = .ok (.getfield 141, 3) := dk_180 0 141 (dk_at dksX6_plays_10 1 rfl rfl)
theorem dX6_plays_241 : decode cX6_plays 241 = .ok (.iload 4, 2) := dk_21 4 (dk_at dksX6_plays_10 4 rfl rfl)
theorem dX6_plays_243 : decode cX6_plays 243 = .ok (.iastore, 1) := dk_79 (dk_at dksX6_plays_10 6 rfl rfl)
theorem dX6_plays_244 : decode cX6_plays 244 = .ok (.aload_n 0, 1) := dk_42 (dk_at dksX6_plays_10 7 rfl rfl)
theorem dX6_plays_245 : decode cX6_plays 245 = .ok (.dup, 1) := dk_89 (dk_at dksX6_plays_10 8 rfl rfl)
theorem dX6_plays_246 : decode cX6_plays 246 = .ok (.getfield 144, 3) := dk_180 0 144 (dk_at dksX6_plays_10 9 rfl rfl)
theorem dX6_plays_249 : decode cX6_plays 249 = .ok (.iload 4, 2) := dk_21 4 (dk_at dksX6_plays_10 12 rfl rfl)
theorem dX6_plays_251 : decode cX6_plays 251 = .ok (.iadd, 1) := dk_96 (dk_at dksX6_plays_10 14 rfl rfl)
theorem dX6_plays_252 : decode cX6_plays 252 = .ok (.putfield 144, 3) := dk_181 0 144 (dk_at dksX6_plays_10 15 rfl rfl)
theorem dX6_plays_255 : decode cX6_plays 255 = .ok (.aload_n 0, 1) := dk_42 (dk_at dksX6_plays_10 18 rfl rfl)
theorem dX6_plays_256 : decode cX6_plays 256 = .ok (.dup, 1) := dk_89 (dk_at dksX6_plays_10 19 rfl rfl)
theorem dX6_plays_257 : decode cX6_plays 257 = .ok (.getfield 141, 3) := dk_180 0 141 (dk_at dksX6_plays_10 20 rfl rfl)
theorem dX6_plays_260 : decode cX6_plays 260 = .ok (.iconst 1, 1) := dk_4 (dk_at dksX6_plays_10 23 rfl rfl)
theorem dX6_plays_261 : decode cX6_plays 261 = .ok (.iadd, 1) := dk_96 (dk_at dksX6_plays_11 0 rfl rfl)
theorem dX6_plays_262 : decode cX6_plays 262 = .ok (.putfield 141, 3) := dk_181 0 141 (dk_at dksX6_plays_11 1 rfl rfl)
theorem dX6_plays_265 : decode cX6_plays 265 = .ok (.goto (-73), 3) := dk_167 255 183 (dk_at dksX6_plays_11 4 rfl rfl)
theorem dX6_plays_268 : decode cX6_plays 268 = .ok (.aload_n 0, 1) := dk_42 (dk_at dksX6_plays_11 7 rfl rfl)
theorem dX6_plays_269 : decode cX6_plays 269 = .ok (.getfield 20, 3) := dk_180 0 20 (dk_at dksX6_plays_11 8 rfl rfl)
theorem dX6_plays_272 : decode cX6_plays 272 = .ok (.sipush 152, 3) := dk_17 0 152 (dk_at dksX6_plays_11 11 rfl rfl)
theorem dX6_plays_275 : decode cX6_plays 275 = .ok (.dup2, 1) := dk_92 (dk_at dksX6_plays_11 14 rfl rfl)
theorem dX6_plays_276 : decode cX6_plays 276 = .ok (.iaload, 1) := dk_46 (dk_at dksX6_plays_11 15 rfl rfl)
theorem dX6_plays_277 : decode cX6_plays 277 = .ok (.aload_n 0, 1) := dk_42 (dk_at dksX6_plays_11 16 rfl rfl)
theorem dX6_plays_278 : decode cX6_plays 278 = .ok (.getfield 141, 3) := dk_180 0 141 (dk_at dksX6_plays_11 17 rfl rfl)
theorem dX6_plays_281 : decode cX6_plays 281 = .ok (.iadd, 1) := dk_96 (dk_at dksX6_plays_11 20 rfl rfl)
theorem dX6_plays_282 : decode cX6_plays 282 = .ok (.iastore, 1) := dk_79 (dk_at dksX6_plays_11 21 rfl rfl)
theorem dX6_plays_283 : decode cX6_plays 283 = .ok (.aload_n 0, 1) := dk_42 (dk_at dksX6_plays_11 22 rfl rfl)
theorem dX6_plays_284 : decode cX6_plays 284 = .ok (.getfield 20, 3) := dk_180 0 20 (dk_at dksX6_plays_12 0 rfl rfl)
theorem dX6_plays_287 : decode cX6_plays 287 = .ok (.sipush 154, 3) := dk_17 0 154 (dk_at dksX6_plays_12 3 rfl rfl)
theorem dX6_plays_290 : decode cX6_plays 290 = .ok (.iload_n 1, 1) := dk_27 (dk_at dksX6_plays_12 6 rfl rfl)
theorem dX6_plays_291 : decode cX6_plays 291 = .ok (.iconst (-1), 1) := dk_2 (dk_at dksX6_plays_12 7 rfl rfl)
theorem dX6_plays_292 : decode cX6_plays 292 = .ok (.if_icmp .ne 12, 3) := dk_160 0 12 (dk_at dksX6_plays_12 8 rfl rfl)
theorem dX6_plays_295 : decode cX6_plays 295 = .ok (.iload_n 2, 1) := dk_28 (dk_at dksX6_plays_12 11 rfl rfl)
theorem dX6_plays_296 : decode cX6_plays 296 = .ok (.iconst (-1), 1) := dk_2 (dk_at dksX6_plays_12 12 rfl rfl)
theorem dX6_plays_297 : decode cX6_plays 297 = .ok (.if_icmp .ne 7, 3) := dk_160 0 7 (dk_at dksX6_plays_12 13 rfl rfl)
theorem dX6_plays_300 : decode cX6_plays 300 = .ok (.iconst 1, 1) := dk_4 (dk_at dksX6_plays_12 16 rfl rfl)
theorem dX6_plays_301 : decode cX6_plays 301 = .ok (.goto 4, 3) := dk_167 0 4 (dk_at dksX6_plays_12 17 rfl rfl)
theorem dX6_plays_304 : decode cX6_plays 304 = .ok (.iconst 0, 1) := dk_3 (dk_at dksX6_plays_12 20 rfl rfl)
theorem dX6_plays_305 : decode cX6_plays 305 = .ok (.iastore, 1) := dk_79 (dk_at dksX6_plays_12 21 rfl rfl)
theorem dX6_plays_306 : decode cX6_plays 306 = .ok (.aload_n 0, 1) := dk_42 (dk_at dksX6_plays_12 22 rfl rfl)
theorem dX6_plays_307 : decode cX6_plays 307 = .ok (.getfield 20, 3) := dk_180 0 20 (dk_at dksX6_plays_13 0 rfl rfl)
theorem dX6_plays_310 : decode cX6_plays 310 = .ok (.sipush 153, 3) := dk_17 0 153 (dk_at dksX6_plays_13 3 rfl rfl)
theorem dX6_plays_313 : decode cX6_plays 313 = .ok (.dup2, 1) := dk_92 (dk_at dksX6_plays_13 6 rfl rfl)
theorem dX6_plays_314 : decode cX6_plays 314 = .ok (.iaload, 1) := dk_46 (dk_at dksX6_plays_13 7 rfl rfl)
theorem dX6_plays_315 : decode cX6_plays 315 = .ok (.iconst 1, 1) := dk_4 (dk_at dksX6_plays_13 8 rfl rfl)
theorem dX6_plays_316 : decode cX6_plays 316 = .ok (.iadd, 1) := dk_96 (dk_at dksX6_plays_13 9 rfl rfl)
theorem dX6_plays_317 : decode cX6_plays 317 = .ok (.iastore, 1) := dk_79 (dk_at dksX6_plays_13 10 rfl rfl)
theorem dX6_plays_318 : decode cX6_plays 318 = .ok (.return_, 1) := dk_177 (dk_at dksX6_plays_13 11 rfl rfl)
abbrev cX6_score : ByteArray := prog_14_method_22_code
def yX6_score : MethodName := ⟨RX6, "score", "(I)I"⟩
def dkwX6_score_1 : List UInt8 := [27, 46, 96, 172]
abbrev dktX6_score_1 : List UInt8 := dkwX6_score_1 ++ []
def dkwX6_score_0 : List UInt8 := [42, 6, 27, 96, 182, 0, 84, 5, 42, 180, 0, 20, 17, 0, 147, 27, 96, 46, 104, 96, 42, 180, 0, 16]
abbrev dktX6_score_0 : List UInt8 := dkwX6_score_0 ++ dktX6_score_1
theorem dksX6_score_0 : cX6_score.data.toList.drop 0 = dktX6_score_0 := by decide +kernel
theorem dksX6_score_1 : cX6_score.data.toList.drop 24 = dktX6_score_1 := dk_seg dksX6_score_0 24 rfl rfl
theorem dX6_score_0 : decode cX6_score 0 = .ok (.aload_n 0, 1) := dk_42 (dk_at dksX6_score_0 0 rfl rfl)
theorem dX6_score_1 : decode cX6_score 1 = .ok (.iconst 3, 1) := dk_6 (dk_at dksX6_score_0 1 rfl rfl)
theorem dX6_score_2 : decode cX6_score 2 = .ok (.iload_n 1, 1) := dk_27 (dk_at dksX6_score_0 2 rfl rfl)
theorem dX6_score_3 : decode cX6_score 3 = .ok (.iadd, 1) := dk_96 (dk_at dksX6_score_0 3 rfl rfl)
theorem dX6_score_4 : decode cX6_score 4 = .ok (.invokevirtual 84, 3) := dk_182 0 84 (dk_at dksX6_score_0 4 rfl rfl)
theorem dX6_score_7 : decode cX6_score 7 = .ok (.iconst 2, 1) := dk_5 (dk_at dksX6_score_0 7 rfl rfl)
theorem dX6_score_8 : decode cX6_score 8 = .ok (.aload_n 0, 1) := dk_42 (dk_at dksX6_score_0 8 rfl rfl)
theorem dX6_score_9 : decode cX6_score 9 = .ok (.getfield 20, 3) := dk_180 0 20 (dk_at dksX6_score_0 9 rfl rfl)
theorem dX6_score_12 : decode cX6_score 12 = .ok (.sipush 147, 3) := dk_17 0 147 (dk_at dksX6_score_0 12 rfl rfl)
theorem dX6_score_15 : decode cX6_score 15 = .ok (.iload_n 1, 1) := dk_27 (dk_at dksX6_score_0 15 rfl rfl)
theorem dX6_score_16 : decode cX6_score 16 = .ok (.iadd, 1) := dk_96 (dk_at dksX6_score_0 16 rfl rfl)
theorem dX6_score_17 : decode cX6_score 17 = .ok (.iaload, 1) := dk_46 (dk_at dksX6_score_0 17 rfl rfl)
theorem dX6_score_18 : decode cX6_score 18 = .ok (.imul, 1) := dk_104 (dk_at dksX6_score_0 18 rfl rfl)
theorem dX6_score_19 : decode cX6_score 19 = .ok (.iadd, 1) := dk_96 (dk_at dksX6_score_0 19 rfl rfl)
theorem dX6_score_20 : decode cX6_score 20 = .ok (.aload_n 0, 1) := dk_42 (dk_at dksX6_score_0 20 rfl rfl)
theorem dX6_score_21 : decode cX6_score 21 = .ok (.getfield 16, 3) := dk_180 0 16 (dk_at dksX6_score_0 21 rfl rfl)
theorem dX6_score_24 : decode cX6_score 24 = .ok (.iload_n 1, 1) := dk_27 (dk_at dksX6_score_1 0 rfl rfl)
theorem dX6_score_25 : decode cX6_score 25 = .ok (.iaload, 1) := dk_46 (dk_at dksX6_score_1 1 rfl rfl)
theorem dX6_score_26 : decode cX6_score 26 = .ok (.iadd, 1) := dk_96 (dk_at dksX6_score_1 2 rfl rfl)
theorem dX6_score_27 : decode cX6_score 27 = .ok (.ireturn, 1) := dk_172 (dk_at dksX6_score_1 3 rfl rfl)
abbrev cX6_becomes : ByteArray := prog_14_method_25_code
def yX6_becomes : MethodName := ⟨RX6, "becomes", "(III)V"⟩
def dkwX6_becomes_1 : List UInt8 := [42, 180, 0, 20, 16, 98, 27, 96, 29, 79, 177]
abbrev dktX6_becomes_1 : List UInt8 := dkwX6_becomes_1 ++ []
def dkwX6_becomes_0 : List UInt8 := [42, 180, 0, 20, 27, 28, 79, 42, 180, 0, 20, 16, 49, 27, 96, 42, 180, 0, 20, 17, 0, 153, 46, 79]
abbrev dktX6_becomes_0 : List UInt8 := dkwX6_becomes_0 ++ dktX6_becomes_1
theorem dksX6_becomes_0 : cX6_becomes.data.toList.drop 0 = dktX6_becomes_0 := by decide +kernel
theorem dksX6_becomes_1 : cX6_becomes.data.toList.drop 24 = dktX6_becomes_1 := dk_seg dksX6_becomes_0 24 rfl rfl
theorem dX6_becomes_0 : decode cX6_becomes 0 = .ok (.aload_n 0, 1) := dk_42 (dk_at dksX6_becomes_0 0 rfl rfl)
theorem dX6_becomes_1 : decode cX6_becomes 1 = .ok (.getfield 20, 3) := dk_180 0 20 (dk_at dksX6_becomes_0 1 rfl rfl)
theorem dX6_becomes_4 : decode cX6_becomes 4 = .ok (.iload_n 1, 1) := dk_27 (dk_at dksX6_becomes_0 4 rfl rfl)
theorem dX6_becomes_5 : decode cX6_becomes 5 = .ok (.iload_n 2, 1) := dk_28 (dk_at dksX6_becomes_0 5 rfl rfl)
theorem dX6_becomes_6 : decode cX6_becomes 6 = .ok (.iastore, 1) := dk_79 (dk_at dksX6_becomes_0 6 rfl rfl)
theorem dX6_becomes_7 : decode cX6_becomes 7 = .ok (.aload_n 0, 1) := dk_42 (dk_at dksX6_becomes_0 7 rfl rfl)
theorem dX6_becomes_8 : decode cX6_becomes 8 = .ok (.getfield 20, 3) := dk_180 0 20 (dk_at dksX6_becomes_0 8 rfl rfl)
theorem dX6_becomes_11 : decode cX6_becomes 11 = .ok (.bipush 49, 2) := dk_16 49 (dk_at dksX6_becomes_0 11 rfl rfl)
theorem dX6_becomes_13 : decode cX6_becomes 13 = .ok (.iload_n 1, 1) := dk_27 (dk_at dksX6_becomes_0 13 rfl rfl)
theorem dX6_becomes_14 : decode cX6_becomes 14 = .ok (.iadd, 1) := dk_96 (dk_at dksX6_becomes_0 14 rfl rfl)
theorem dX6_becomes_15 : decode cX6_becomes 15 = .ok (.aload_n 0, 1) := dk_42 (dk_at dksX6_becomes_0 15 rfl rfl)
theorem dX6_becomes_16 : decode cX6_becomes 16 = .ok (.getfield 20, 3) := dk_180 0 20 (dk_at dksX6_becomes_0 16 rfl rfl)
theorem dX6_becomes_19 : decode cX6_becomes 19 = .ok (.sipush 153, 3) := dk_17 0 153 (dk_at dksX6_becomes_0 19 rfl rfl)
theorem dX6_becomes_22 : decode cX6_becomes 22 = .ok (.iaload, 1) := dk_46 (dk_at dksX6_becomes_0 22 rfl rfl)
theorem dX6_becomes_23 : decode cX6_becomes 23 = .ok (.iastore, 1) := dk_79 (dk_at dksX6_becomes_0 23 rfl rfl)
theorem dX6_becomes_24 : decode cX6_becomes 24 = .ok (.aload_n 0, 1) := dk_42 (dk_at dksX6_becomes_1 0 rfl rfl)
theorem dX6_becomes_25 : decode cX6_becomes 25 = .ok (.getfield 20, 3) := dk_180 0 20 (dk_at dksX6_becomes_1 1 rfl rfl)
theorem dX6_becomes_28 : decode cX6_becomes 28 = .ok (.bipush 98, 2) := dk_16 98 (dk_at dksX6_becomes_1 4 rfl rfl)
theorem dX6_becomes_30 : decode cX6_becomes 30 = .ok (.iload_n 1, 1) := dk_27 (dk_at dksX6_becomes_1 6 rfl rfl)
theorem dX6_becomes_31 : decode cX6_becomes 31 = .ok (.iadd, 1) := dk_96 (dk_at dksX6_becomes_1 7 rfl rfl)
theorem dX6_becomes_32 : decode cX6_becomes 32 = .ok (.iload_n 3, 1) := dk_29 (dk_at dksX6_becomes_1 8 rfl rfl)
theorem dX6_becomes_33 : decode cX6_becomes 33 = .ok (.iastore, 1) := dk_79 (dk_at dksX6_becomes_1 9 rfl rfl)
theorem dX6_becomes_34 : decode cX6_becomes 34 = .ok (.return_, 1) := dk_177 (dk_at dksX6_becomes_1 10 rfl rfl)
abbrev cX6_wave : ByteArray := prog_14_method_27_code
def yX6_wave : MethodName := ⟨RX6, "wave", "(I)I"⟩
def dkwX6_wave_5 : List UInt8 := [167, 255, 157, 28, 172]
abbrev dktX6_wave_5 : List UInt8 := dkwX6_wave_5 ++ []
def dkwX6_wave_4 : List UInt8 := [167, 0, 4, 3, 96, 79, 42, 29, 6, 21, 6, 96, 27, 182, 0, 131, 132, 2, 1, 132, 3, 1]
abbrev dktX6_wave_4 : List UInt8 := dkwX6_wave_4 ++ dktX6_wave_5
def dkwX6_wave_3 : List UInt8 := [17, 0, 147, 21, 6, 96, 92, 46, 42, 180, 0, 20, 29, 46, 5, 21, 6, 100, 160, 0, 7, 4]
abbrev dktX6_wave_3 : List UInt8 := dkwX6_wave_3 ++ dktX6_wave_4
def dkwX6_wave_2 : List UInt8 := [160, 0, 6, 167, 0, 62, 21, 4, 21, 5, 164, 0, 7, 3, 167, 0, 4, 4, 54, 6, 42, 180, 0, 20]
abbrev dktX6_wave_2 : List UInt8 := dkwX6_wave_2 ++ dktX6_wave_3
def dkwX6_wave_1 : List UInt8 := [180, 0, 53, 29, 46, 54, 4, 42, 180, 0, 53, 16, 49, 29, 96, 46, 54, 5, 21, 4, 21, 5]
abbrev dktX6_wave_1 : List UInt8 := dkwX6_wave_1 ++ dktX6_wave_2
def dkwX6_wave_0 : List UInt8 := [42, 3, 182, 0, 128, 42, 4, 182, 0, 128, 3, 61, 3, 62, 29, 42, 182, 0, 76, 162, 0, 97, 42]
abbrev dktX6_wave_0 : List UInt8 := dkwX6_wave_0 ++ dktX6_wave_1
theorem dksX6_wave_0 : cX6_wave.data.toList.drop 0 = dktX6_wave_0 := by decide +kernel
theorem dksX6_wave_1 : cX6_wave.data.toList.drop 23 = dktX6_wave_1 := dk_seg dksX6_wave_0 23 rfl rfl
theorem dksX6_wave_2 : cX6_wave.data.toList.drop 45 = dktX6_wave_2 := dk_seg dksX6_wave_1 22 rfl rfl
theorem dksX6_wave_3 : cX6_wave.data.toList.drop 69 = dktX6_wave_3 := dk_seg dksX6_wave_2 24 rfl rfl
theorem dksX6_wave_4 : cX6_wave.data.toList.drop 91 = dktX6_wave_4 := dk_seg dksX6_wave_3 22 rfl rfl
theorem dksX6_wave_5 : cX6_wave.data.toList.drop 113 = dktX6_wave_5 := dk_seg dksX6_wave_4 22 rfl rfl
theorem dX6_wave_0 : decode cX6_wave 0 = .ok (.aload_n 0, 1) := dk_42 (dk_at dksX6_wave_0 0 rfl rfl)
theorem dX6_wave_1 : decode cX6_wave 1 = .ok (.iconst 0, 1) := dk_3 (dk_at dksX6_wave_0 1 rfl rfl)
theorem dX6_wave_2 : decode cX6_wave 2 = .ok (.invokevirtual 128, 3) := dk_182 0 128 (dk_at dksX6_wave_0 2 rfl rfl)
theorem dX6_wave_5 : decode cX6_wave 5 = .ok (.aload_n 0, 1) := dk_42 (dk_at dksX6_wave_0 5 rfl rfl)
theorem dX6_wave_6 : decode cX6_wave 6 = .ok (.iconst 1, 1) := dk_4 (dk_at dksX6_wave_0 6 rfl rfl)
theorem dX6_wave_7 : decode cX6_wave 7 = .ok (.invokevirtual 128, 3) := dk_182 0 128 (dk_at dksX6_wave_0 7 rfl rfl)
theorem dX6_wave_10 : decode cX6_wave 10 = .ok (.iconst 0, 1) := dk_3 (dk_at dksX6_wave_0 10 rfl rfl)
theorem dX6_wave_11 : decode cX6_wave 11 = .ok (.istore_n 2, 1) := dk_61 (dk_at dksX6_wave_0 11 rfl rfl)
theorem dX6_wave_12 : decode cX6_wave 12 = .ok (.iconst 0, 1) := dk_3 (dk_at dksX6_wave_0 12 rfl rfl)
theorem dX6_wave_13 : decode cX6_wave 13 = .ok (.istore_n 3, 1) := dk_62 (dk_at dksX6_wave_0 13 rfl rfl)
theorem dX6_wave_14 : decode cX6_wave 14 = .ok (.iload_n 3, 1) := dk_29 (dk_at dksX6_wave_0 14 rfl rfl)
theorem dX6_wave_15 : decode cX6_wave 15 = .ok (.aload_n 0, 1) := dk_42 (dk_at dksX6_wave_0 15 rfl rfl)
theorem dX6_wave_16 : decode cX6_wave 16 = .ok (.invokevirtual 76, 3) := dk_182 0 76 (dk_at dksX6_wave_0 16 rfl rfl)
theorem dX6_wave_19 : decode cX6_wave 19 = .ok (.if_icmp .ge 97, 3) := dk_162 0 97 (dk_at dksX6_wave_0 19 rfl rfl)
theorem dX6_wave_22 : decode cX6_wave 22 = .ok (.aload_n 0, 1) := dk_42 (dk_at dksX6_wave_0 22 rfl rfl)
theorem dX6_wave_23 : decode cX6_wave 23 = .ok (.getfield 53, 3) := dk_180 0 53 (dk_at dksX6_wave_1 0 rfl rfl)
theorem dX6_wave_26 : decode cX6_wave 26 = .ok (.iload_n 3, 1) := dk_29 (dk_at dksX6_wave_1 3 rfl rfl)
theorem dX6_wave_27 : decode cX6_wave 27 = .ok (.iaload, 1) := dk_46 (dk_at dksX6_wave_1 4 rfl rfl)
theorem dX6_wave_28 : decode cX6_wave 28 = .ok (.istore 4, 2) := dk_54 4 (dk_at dksX6_wave_1 5 rfl rfl)
theorem dX6_wave_30 : decode cX6_wave 30 = .ok (.aload_n 0, 1) := dk_42 (dk_at dksX6_wave_1 7 rfl rfl)
theorem dX6_wave_31 : decode cX6_wave 31 = .ok (.getfield 53, 3) := dk_180 0 53 (dk_at dksX6_wave_1 8 rfl rfl)
theorem dX6_wave_34 : decode cX6_wave 34 = .ok (.bipush 49, 2) := dk_16 49 (dk_at dksX6_wave_1 11 rfl rfl)
theorem dX6_wave_36 : decode cX6_wave 36 = .ok (.iload_n 3, 1) := dk_29 (dk_at dksX6_wave_1 13 rfl rfl)
theorem dX6_wave_37 : decode cX6_wave 37 = .ok (.iadd, 1) := dk_96 (dk_at dksX6_wave_1 14 rfl rfl)
theorem dX6_wave_38 : decode cX6_wave 38 = .ok (.iaload, 1) := dk_46 (dk_at dksX6_wave_1 15 rfl rfl)
theorem dX6_wave_39 : decode cX6_wave 39 = .ok (.istore 5, 2) := dk_54 5 (dk_at dksX6_wave_1 16 rfl rfl)
theorem dX6_wave_41 : decode cX6_wave 41 = .ok (.iload 4, 2) := dk_21 4 (dk_at dksX6_wave_1 18 rfl rfl)
theorem dX6_wave_43 : decode cX6_wave 43 = .ok (.iload 5, 2) := dk_21 5 (dk_at dksX6_wave_1 20 rfl rfl)
theorem dX6_wave_45 : decode cX6_wave 45 = .ok (.if_icmp .ne 6, 3) := dk_160 0 6 (dk_at dksX6_wave_2 0 rfl rfl)
theorem dX6_wave_48 : decode cX6_wave 48 = .ok (.goto 62, 3) := dk_167 0 62 (dk_at dksX6_wave_2 3 rfl rfl)
theorem dX6_wave_51 : decode cX6_wave 51 = .ok (.iload 4, 2) := dk_21 4 (dk_at dksX6_wave_2 6 rfl rfl)
theorem dX6_wave_53 : decode cX6_wave 53 = .ok (.iload 5, 2) := dk_21 5 (dk_at dksX6_wave_2 8 rfl rfl)
theorem dX6_wave_55 : decode cX6_wave 55 = .ok (.if_icmp .le 7, 3) := dk_164 0 7 (dk_at dksX6_wave_2 10 rfl rfl)
theorem dX6_wave_58 : decode cX6_wave 58 = .ok (.iconst 0, 1) := dk_3 (dk_at dksX6_wave_2 13 rfl rfl)
theorem dX6_wave_59 : decode cX6_wave 59 = .ok (.goto 4, 3) := dk_167 0 4 (dk_at dksX6_wave_2 14 rfl rfl)
theorem dX6_wave_62 : decode cX6_wave 62 = .ok (.iconst 1, 1) := dk_4 (dk_at dksX6_wave_2 17 rfl rfl)
theorem dX6_wave_63 : decode cX6_wave 63 = .ok (.istore 6, 2) := dk_54 6 (dk_at dksX6_wave_2 18 rfl rfl)
theorem dX6_wave_65 : decode cX6_wave 65 = .ok (.aload_n 0, 1) := dk_42 (dk_at dksX6_wave_2 20 rfl rfl)
theorem dX6_wave_66 : decode cX6_wave 66 = .ok (.getfield 20, 3) := dk_180 0 20 (dk_at dksX6_wave_2 21 rfl rfl)
theorem dX6_wave_69 : decode cX6_wave 69 = .ok (.sipush 147, 3) := dk_17 0 147 (dk_at dksX6_wave_3 0 rfl rfl)
theorem dX6_wave_72 : decode cX6_wave 72 = .ok (.iload 6, 2) := dk_21 6 (dk_at dksX6_wave_3 3 rfl rfl)
theorem dX6_wave_74 : decode cX6_wave 74 = .ok (.iadd, 1) := dk_96 (dk_at dksX6_wave_3 5 rfl rfl)
theorem dX6_wave_75 : decode cX6_wave 75 = .ok (.dup2, 1) := dk_92 (dk_at dksX6_wave_3 6 rfl rfl)
theorem dX6_wave_76 : decode cX6_wave 76 = .ok (.iaload, 1) := dk_46 (dk_at dksX6_wave_3 7 rfl rfl)
theorem dX6_wave_77 : decode cX6_wave 77 = .ok (.aload_n 0, 1) := dk_42 (dk_at dksX6_wave_3 8 rfl rfl)
theorem dX6_wave_78 : decode cX6_wave 78 = .ok (.getfield 20, 3) := dk_180 0 20 (dk_at dksX6_wave_3 9 rfl rfl)
theorem dX6_wave_81 : decode cX6_wave 81 = .ok (.iload_n 3, 1) := dk_29 (dk_at dksX6_wave_3 12 rfl rfl)
theorem dX6_wave_82 : decode cX6_wave 82 = .ok (.iaload, 1) := dk_46 (dk_at dksX6_wave_3 13 rfl rfl)
theorem dX6_wave_83 : decode cX6_wave 83 = .ok (.iconst 2, 1) := dk_5 (dk_at dksX6_wave_3 14 rfl rfl)
theorem dX6_wave_84 : decode cX6_wave 84 = .ok (.iload 6, 2) := dk_21 6 (dk_at dksX6_wave_3 15 rfl rfl)
theorem dX6_wave_86 : decode cX6_wave 86 = .ok (.isub, 1) := dk_100 (dk_at dksX6_wave_3 17 rfl rfl)
theorem dX6_wave_87 : decode cX6_wave 87 = .ok (.if_icmp .ne 7, 3) := dk_160 0 7 (dk_at dksX6_wave_3 18 rfl rfl)
theorem dX6_wave_90 : decode cX6_wave 90 = .ok (.iconst 1, 1) := dk_4 (dk_at dksX6_wave_3 21 rfl rfl)
theorem dX6_wave_91 : decode cX6_wave 91 = .ok (.goto 4, 3) := dk_167 0 4 (dk_at dksX6_wave_4 0 rfl rfl)
theorem dX6_wave_94 : decode cX6_wave 94 = .ok (.iconst 0, 1) := dk_3 (dk_at dksX6_wave_4 3 rfl rfl)
theorem dX6_wave_95 : decode cX6_wave 95 = .ok (.iadd, 1) := dk_96 (dk_at dksX6_wave_4 4 rfl rfl)
theorem dX6_wave_96 : decode cX6_wave 96 = .ok (.iastore, 1) := dk_79 (dk_at dksX6_wave_4 5 rfl rfl)
theorem dX6_wave_97 : decode cX6_wave 97 = .ok (.aload_n 0, 1) := dk_42 (dk_at dksX6_wave_4 6 rfl rfl)
theorem dX6_wave_98 : decode cX6_wave 98 = .ok (.iload_n 3, 1) := dk_29 (dk_at dksX6_wave_4 7 rfl rfl)
theorem dX6_wave_99 : decode cX6_wave 99 = .ok (.iconst 3, 1) := dk_6 (dk_at dksX6_wave_4 8 rfl rfl)
theorem dX6_wave_100 : decode cX6_wave 100 = .ok (.iload 6, 2) := dk_21 6 (dk_at dksX6_wave_4 9 rfl rfl)
theorem dX6_wave_102 : decode cX6_wave 102 = .ok (.iadd, 1) := dk_96 (dk_at dksX6_wave_4 11 rfl rfl)
theorem dX6_wave_103 : decode cX6_wave 103 = .ok (.iload_n 1, 1) := dk_27 (dk_at dksX6_wave_4 12 rfl rfl)
theorem dX6_wave_104 : decode cX6_wave 104 = .ok (.invokevirtual 131, 3) := dk_182 0 131 (dk_at dksX6_wave_4 13 rfl rfl)
theorem dX6_wave_107 : decode cX6_wave 107 = .ok (.iinc 2 1, 3) := dk_132 2 1 (dk_at dksX6_wave_4 16 rfl rfl)
theorem dX6_wave_110 : decode cX6_wave 110 = .ok (.iinc 3 1, 3) := dk_132 3 1 (dk_at dksX6_wave_4 19 rfl rfl)
theorem dX6_wave_113 : decode cX6_wave 113 = .ok (.goto (-99), 3) := dk_167 255 157 (dk_at dksX6_wave_5 0 rfl rfl)
theorem dX6_wave_116 : decode cX6_wave 116 = .ok (.iload_n 2, 1) := dk_28 (dk_at dksX6_wave_5 3 rfl rfl)
theorem dX6_wave_117 : decode cX6_wave 117 = .ok (.ireturn, 1) := dk_172 (dk_at dksX6_wave_5 4 rfl rfl)
abbrev cX6_encloses : ByteArray := prog_14_method_26_code
def yX6_encloses : MethodName := ⟨RX6, "encloses", "(I)V"⟩
def dkwX6_encloses_6 : List UInt8 := [177]
abbrev dktX6_encloses_6 : List UInt8 := dkwX6_encloses_6 ++ []
def dkwX6_encloses_5 : List UInt8 := [10, 127, 10, 148, 154, 0, 8, 21, 8, 167, 0, 4, 3, 96, 79, 132, 9, 1, 167, 255, 211, 167, 255, 158]
abbrev dktX6_encloses_5 : List UInt8 := dkwX6_encloses_5 ++ dktX6_encloses_6
def dkwX6_encloses_4 : List UInt8 := [182, 0, 76, 162, 0, 42, 42, 180, 0, 53, 16, 49, 27, 104, 21, 9, 96, 92, 46, 22, 6, 21, 9, 123]
abbrev dktX6_encloses_4 : List UInt8 := dkwX6_encloses_4 ++ dktX6_encloses_5
def dkwX6_encloses_3 : List UInt8 := [127, 9, 148, 154, 0, 11, 22, 6, 184, 0, 125, 167, 0, 4, 3, 54, 8, 3, 54, 9, 21, 9, 42]
abbrev dktX6_encloses_3 : List UInt8 := dkwX6_encloses_3 ++ dktX6_encloses_4
def dkwX6_encloses_2 : List UInt8 := [42, 32, 32, 184, 0, 117, 182, 0, 121, 55, 6, 32, 22, 6, 20, 0, 95, 131, 127, 65, 22, 6, 22, 4]
abbrev dktX6_encloses_2 : List UInt8 := dkwX6_encloses_2 ++ dktX6_encloses_3
def dkwX6_encloses_1 : List UInt8 := [180, 0, 53, 16, 49, 27, 104, 21, 6, 96, 3, 79, 132, 6, 1, 167, 255, 233, 32, 9, 148, 153, 0, 98]
abbrev dktX6_encloses_1 : List UInt8 := dkwX6_encloses_1 ++ dktX6_encloses_2
def dkwX6_encloses_0 : List UInt8 := [42, 27, 182, 0, 111, 65, 42, 182, 0, 114, 55, 4, 3, 54, 6, 21, 6, 16, 49, 162, 0, 22, 42]
abbrev dktX6_encloses_0 : List UInt8 := dkwX6_encloses_0 ++ dktX6_encloses_1
theorem dksX6_encloses_0 : cX6_encloses.data.toList.drop 0 = dktX6_encloses_0 := by decide +kernel
theorem dksX6_encloses_1 : cX6_encloses.data.toList.drop 23 = dktX6_encloses_1 := dk_seg dksX6_encloses_0 23 rfl rfl
theorem dksX6_encloses_2 : cX6_encloses.data.toList.drop 47 = dktX6_encloses_2 := dk_seg dksX6_encloses_1 24 rfl rfl
theorem dksX6_encloses_3 : cX6_encloses.data.toList.drop 71 = dktX6_encloses_3 := dk_seg dksX6_encloses_2 24 rfl rfl
theorem dksX6_encloses_4 : cX6_encloses.data.toList.drop 94 = dktX6_encloses_4 := dk_seg dksX6_encloses_3 23 rfl rfl
theorem dksX6_encloses_5 : cX6_encloses.data.toList.drop 118 = dktX6_encloses_5 := dk_seg dksX6_encloses_4 24 rfl rfl
theorem dksX6_encloses_6 : cX6_encloses.data.toList.drop 142 = dktX6_encloses_6 := dk_seg dksX6_encloses_5 24 rfl rfl
theorem dX6_encloses_0 : decode cX6_encloses 0 = .ok (.aload_n 0, 1) := dk_42 (dk_at dksX6_encloses_0 0 rfl rfl)
theorem dX6_encloses_1 : decode cX6_encloses 1 = .ok (.iload_n 1, 1) := dk_27 (dk_at dksX6_encloses_0 1 rfl rfl)
theorem dX6_encloses_2 : decode cX6_encloses 2 = .ok (.invokevirtual 111, 3) := dk_182 0 111 (dk_at dksX6_encloses_0 2 rfl rfl)
theorem dX6_encloses_5 : decode cX6_encloses 5 = .ok (.lstore_n 2, 1) := dk_65 (dk_at dksX6_encloses_0 5 rfl rfl)
theorem dX6_encloses_6 : decode cX6_encloses 6 = .ok (.aload_n 0, 1) := dk_42 (dk_at dksX6_encloses_0 6 rfl rfl)
theorem dX6_encloses_7 : decode cX6_encloses 7 = .ok (.invokevirtual 114, 3) := dk_182 0 114 (dk_at dksX6_encloses_0 7 rfl rfl)
theorem dX6_encloses_10 : decode cX6_encloses 10 = .ok (.lstore 4, 2) := dk_55 4 (dk_at dksX6_encloses_0 10 rfl rfl)
theorem dX6_encloses_12 : decode cX6_encloses 12 = .ok (.iconst 0, 1) := dk_3 (dk_at dksX6_encloses_0 12 rfl rfl)
theorem dX6_encloses_13 : decode cX6_encloses 13 = .ok (.istore 6, 2) := dk_54 6 (dk_at dksX6_encloses_0 13 rfl rfl)
theorem dX6_encloses_15 : decode cX6_encloses 15 = .ok (.iload 6, 2) := dk_21 6 (dk_at dksX6_encloses_0 15 rfl rfl)
theorem dX6_encloses_17 : decode cX6_encloses 17 = .ok (.bipush 49, 2) := dk_16 49 (dk_at dksX6_encloses_0 17 rfl rfl)
theorem dX6_encloses_19 : decode cX6_encloses 19 = .ok (.if_icmp .ge 22, 3) := dk_162 0 22 (dk_at dksX6_encloses_0 19 rfl rfl)
theorem dX6_encloses_22 : decode cX6_encloses 22 = .ok (.aload_n 0, 1) := dk_42 (dk_at dksX6_encloses_0 22 rfl rfl)
theorem dX6_encloses_23 : decode cX6_encloses 23 = .ok (.getfield 53, 3) := dk_180 0 53 (dk_at dksX6_encloses_1 0 rfl rfl)
theorem dX6_encloses_26 : decode cX6_encloses 26 = .ok (.bipush 49, 2) := dk_16 49 (dk_at dksX6_encloses_1 3 rfl rfl)
theorem dX6_encloses_28 : decode cX6_encloses 28 = .ok (.iload_n 1, 1) := dk_27 (dk_at dksX6_encloses_1 5 rfl rfl)
theorem dX6_encloses_29 : decode cX6_encloses 29 = .ok (.imul, 1) := dk_104 (dk_at dksX6_encloses_1 6 rfl rfl)
theorem dX6_encloses_30 : decode cX6_encloses 30 = .ok (.iload 6, 2) := dk_21 6 (dk_at dksX6_encloses_1 7 rfl rfl)
theorem dX6_encloses_32 : decode cX6_encloses 32 = .ok (.iadd, 1) := dk_96 (dk_at dksX6_encloses_1 9 rfl rfl)
theorem dX6_encloses_33 : decode cX6_encloses 33 = .ok (.iconst 0, 1) := dk_3 (dk_at dksX6_encloses_1 10 rfl rfl)
theorem dX6_encloses_34 : decode cX6_encloses 34 = .ok (.iastore, 1) := dk_79 (dk_at dksX6_encloses_1 11 rfl rfl)
theorem dX6_encloses_35 : decode cX6_encloses 35 = .ok (.iinc 6 1, 3) := dk_132 6 1 (dk_at dksX6_encloses_1 12 rfl rfl)
theorem dX6_encloses_38 : decode cX6_encloses 38 = .ok (.goto (-23), 3) := dk_167 255 233 (dk_at dksX6_encloses_1 15 rfl rfl)
theorem dX6_encloses_41 : decode cX6_encloses 41 = .ok (.lload_n 2, 1) := dk_32 (dk_at dksX6_encloses_1 18 rfl rfl)
theorem dX6_encloses_42 : decode cX6_encloses 42 = .ok (.lconst 0, 1) := dk_9 (dk_at dksX6_encloses_1 19 rfl rfl)
theorem dX6_encloses_43 : decode cX6_encloses 43 = .ok (.lcmp, 1) := dk_148 (dk_at dksX6_encloses_1 20 rfl rfl)
theorem dX6_encloses_44 : decode cX6_encloses 44 = .ok (.ifCond .eq 98, 3) := dk_153 0 98 (dk_at dksX6_encloses_1 21 rfl rfl)
theorem dX6_encloses_47 : decode cX6_encloses 47 = .ok (.aload_n 0, 1) := dk_42 (dk_at dksX6_encloses_2 0 rfl rfl)
theorem dX6_encloses_48 : decode cX6_encloses 48 = .ok (.lload_n 2, 1) := dk_32 (dk_at dksX6_encloses_2 1 rfl rfl)
theorem dX6_encloses_49 : decode cX6_encloses 49 = .ok (.lload_n 2, 1) := dk_32 (dk_at dksX6_encloses_2 2 rfl rfl)
theorem dX6_encloses_50 : decode cX6_encloses 50 = .ok (.invokestatic 117, 3) := dk_184 0 117 (dk_at dksX6_encloses_2 3 rfl rfl)
theorem dX6_encloses_53 : decode cX6_encloses 53 = .ok (.invokevirtual 121, 3) := dk_182 0 121 (dk_at dksX6_encloses_2 6 rfl rfl)
theorem dX6_encloses_56 : decode cX6_encloses 56 = .ok (.lstore 6, 2) := dk_55 6 (dk_at dksX6_encloses_2 9 rfl rfl)
theorem dX6_encloses_58 : decode cX6_encloses 58 = .ok (.lload_n 2, 1) := dk_32 (dk_at dksX6_encloses_2 11 rfl rfl)
theorem dX6_encloses_59 : decode cX6_encloses 59 = .ok (.lload 6, 2) := dk_22 6 (dk_at dksX6_encloses_2 12 rfl rfl)
theorem dX6_encloses_61 : decode cX6_encloses 61 = .ok (.ldc2_w 95, 3) := dk_20 0 95 (dk_at dksX6_encloses_2 14 rfl rfl)
theorem dX6_encloses_64 : decode cX6_encloses 64 = .ok (.lxor, 1) := dk_131 (dk_at dksX6_encloses_2 17 rfl rfl)
theorem dX6_encloses_65 : decode cX6_encloses 65 = .ok (.land, 1) := dk_127 (dk_at dksX6_encloses_2 18 rfl rfl)
theorem dX6_encloses_66 : decode cX6_encloses 66 = .ok (.lstore_n 2, 1) := dk_65 (dk_at dksX6_encloses_2 19 rfl rfl)
theorem dX6_encloses_67 : decode cX6_encloses 67 = .ok (.lload 6, 2) := dk_22 6 (dk_at dksX6_encloses_2 20 rfl rfl)
theorem dX6_encloses_69 : decode cX6_encloses 69 = .ok (.lload 4, 2) := dk_22 4 (dk_at dksX6_encloses_2 22 rfl rfl)
theorem dX6_encloses_71 : decode cX6_encloses 71 = .ok (.land, 1) := dk_127 (dk_at dksX6_encloses_3 0 rfl rfl)
theorem dX6_encloses_72 : decode cX6_encloses 72 = .ok (.lconst 0, 1) := dk_9 (dk_at dksX6_encloses_3 1 rfl rfl)
theorem dX6_encloses_73 : decode cX6_encloses 73 = .ok (.lcmp, 1) := dk_148 (dk_at dksX6_encloses_3 2 rfl rfl)
theorem dX6_encloses_74 : decode cX6_encloses 74 = .ok (.ifCond .ne 11, 3) := dk_154 0 11 (dk_at dksX6_encloses_3 3 rfl rfl)
theorem dX6_encloses_77 : decode cX6_encloses 77 = .ok (.lload 6, 2) := dk_22 6 (dk_at dksX6_encloses_3 6 rfl rfl)
theorem dX6_encloses_79 : decode cX6_encloses 79 = .ok (.invokestatic 125, 3) := dk_184 0 125 (dk_at dksX6_encloses_3 8 rfl rfl)
theorem dX6_encloses_82 : decode cX6_encloses 82 = .ok (.goto 4, 3) := dk_167 0 4 (dk_at dksX6_encloses_3 11 rfl rfl)
theorem dX6_encloses_85 : decode cX6_encloses 85 = .ok (.iconst 0, 1) := dk_3 (dk_at dksX6_encloses_3 14 rfl rfl)
theorem dX6_encloses_86 : decode cX6_encloses 86 = .ok (.istore 8, 2) := dk_54 8 (dk_at dksX6_encloses_3 15 rfl rfl)
theorem dX6_encloses_88 : decode cX6_encloses 88 = .ok (.iconst 0, 1) := dk_3 (dk_at dksX6_encloses_3 17 rfl rfl)
theorem dX6_encloses_89 : decode cX6_encloses 89 = .ok (.istore 9, 2) := dk_54 9 (dk_at dksX6_encloses_3 18 rfl rfl)
theorem dX6_encloses_91 : decode cX6_encloses 91 = .ok (.iload 9, 2) := dk_21 9 (dk_at dksX6_encloses_3 20 rfl rfl)
theorem dX6_encloses_93 : decode cX6_encloses 93 = .ok (.aload_n 0, 1) := dk_42 (dk_at dksX6_encloses_3 22 rfl rfl)
theorem dX6_encloses_94 : decode cX6_encloses 94 = .ok (.invokevirtual 76, 3) := dk_182 0 76 (dk_at dksX6_encloses_4 0 rfl rfl)
theorem dX6_encloses_97 : decode cX6_encloses 97 = .ok (.if_icmp .ge 42, 3) := dk_162 0 42 (dk_at dksX6_encloses_4 3 rfl rfl)
theorem dX6_encloses_100 : decode cX6_encloses 100 = .ok (.aload_n 0, 1) := dk_42 (dk_at dksX6_encloses_4 6 rfl rfl)
theorem dX6_encloses_101 : decode cX6_encloses 101 = .ok (.getfield 53, 3) := dk_180 0 53 (dk_at dksX6_encloses_4 7 rfl rfl)
theorem dX6_encloses_104 : decode cX6_encloses 104 = .ok (.bipush 49, 2) := dk_16 49 (dk_at dksX6_encloses_4 10 rfl rfl)
theorem dX6_encloses_106 : decode cX6_encloses 106 = .ok (.iload_n 1, 1) := dk_27 (dk_at dksX6_encloses_4 12 rfl rfl)
theorem dX6_encloses_107 : decode cX6_encloses 107 = .ok (.imul, 1) := dk_104 (dk_at dksX6_encloses_4 13 rfl rfl)
theorem dX6_encloses_108 : decode cX6_encloses 108 = .ok (.iload 9, 2) := dk_21 9 (dk_at dksX6_encloses_4 14 rfl rfl)
theorem dX6_encloses_110 : decode cX6_encloses 110 = .ok (.iadd, 1) := dk_96 (dk_at dksX6_encloses_4 16 rfl rfl)
theorem dX6_encloses_111 : decode cX6_encloses 111 = .ok (.dup2, 1) := dk_92 (dk_at dksX6_encloses_4 17 rfl rfl)
theorem dX6_encloses_112 : decode cX6_encloses 112 = .ok (.iaload, 1) := dk_46 (dk_at dksX6_encloses_4 18 rfl rfl)
theorem dX6_encloses_113 : decode cX6_encloses 113 = .ok (.lload 6, 2) := dk_22 6 (dk_at dksX6_encloses_4 19 rfl rfl)
theorem dX6_encloses_115 : decode cX6_encloses 115 = .ok (.iload 9, 2) := dk_21 9 (dk_at dksX6_encloses_4 21 rfl rfl)
theorem dX6_encloses_117 : decode cX6_encloses 117 = .ok (.lshr, 1) := dk_123 (dk_at dksX6_encloses_4 23 rfl rfl)
theorem dX6_encloses_118 : decode cX6_encloses 118 = .ok (.lconst 1, 1) := dk_10 (dk_at dksX6_encloses_5 0 rfl rfl)
theorem dX6_encloses_119 : decode cX6_encloses 119 = .ok (.land, 1) := dk_127 (dk_at dksX6_encloses_5 1 rfl rfl)
theorem dX6_encloses_120 : decode cX6_encloses 120 = .ok (.lconst 1, 1) := dk_10 (dk_at dksX6_encloses_5 2 rfl rfl)
theorem dX6_encloses_121 : decode cX6_encloses 121 = .ok (.lcmp, 1) := dk_148 (dk_at dksX6_encloses_5 3 rfl rfl)
theorem dX6_encloses_122 : decode cX6_encloses 122 = .ok (.ifCond .ne 8, 3) := dk_154 0 8 (dk_at dksX6_encloses_5 4 rfl rfl)
theorem dX6_encloses_125 : decode cX6_encloses 125 = .ok (.iload 8, 2) := dk_21 8 (dk_at dksX6_encloses_5 7 rfl rfl)
theorem dX6_encloses_127 : decode cX6_encloses 127 = .ok (.goto 4, 3) := dk_167 0 4 (dk_at dksX6_encloses_5 9 rfl rfl)
theorem dX6_encloses_130 : decode cX6_encloses 130 = .ok (.iconst 0, 1) := dk_3 (dk_at dksX6_encloses_5 12 rfl rfl)
theorem dX6_encloses_131 : decode cX6_encloses 131 = .ok (.iadd, 1) := dk_96 (dk_at dksX6_encloses_5 13 rfl rfl)
theorem dX6_encloses_132 : decode cX6_encloses 132 = .ok (.iastore, 1) := dk_79 (dk_at dksX6_encloses_5 14 rfl rfl)
theorem dX6_encloses_133 : decode cX6_encloses 133 = .ok (.iinc 9 1, 3) := dk_132 9 1 (dk_at dksX6_encloses_5 15 rfl rfl)
theorem dX6_encloses_136 : decode cX6_encloses 136 = .ok (.goto (-45), 3) := dk_167 255 211 (dk_at dksX6_encloses_5 18 rfl rfl)
theorem dX6_encloses_139 : decode cX6_encloses 139 = .ok (.goto (-98), 3) := dk_167 255 158 (dk_at dksX6_encloses_5 21 rfl rfl)
theorem dX6_encloses_142 : decode cX6_encloses 142 = .ok (.return_, 1) := dk_177 (dk_at dksX6_encloses_6 0 rfl rfl)
abbrev cX6_outside : ByteArray := prog_14_method_21_code
def yX6_outside : MethodName := ⟨RX6, "outside", "(I)J"⟩
def dkwX6_outside_1 : List UInt8 := [20, 0, 95, 131, 127, 42, 8, 182, 0, 105, 20, 0, 95, 131, 127, 173]
abbrev dktX6_outside_1 : List UInt8 := dkwX6_outside_1 ++ []
def dkwX6_outside_0 : List UInt8 := [42, 182, 0, 97, 42, 4, 27, 96, 182, 0, 105, 20, 0, 95, 131, 127, 42, 6, 27, 96, 182, 0, 105]
abbrev dktX6_outside_0 : List UInt8 := dkwX6_outside_0 ++ dktX6_outside_1
theorem dksX6_outside_0 : cX6_outside.data.toList.drop 0 = dktX6_outside_0 := by decide +kernel
theorem dksX6_outside_1 : cX6_outside.data.toList.drop 23 = dktX6_outside_1 := dk_seg dksX6_outside_0 23 rfl rfl
theorem dX6_outside_0 : decode cX6_outside 0 = .ok (.aload_n 0, 1) := dk_42 (dk_at dksX6_outside_0 0 rfl rfl)
theorem dX6_outside_1 : decode cX6_outside 1 = .ok (.invokevirtual 97, 3) := dk_182 0 97 (dk_at dksX6_outside_0 1 rfl rfl)
theorem dX6_outside_4 : decode cX6_outside 4 = .ok (.aload_n 0, 1) := dk_42 (dk_at dksX6_outside_0 4 rfl rfl)
theorem dX6_outside_5 : decode cX6_outside 5 = .ok (.iconst 1, 1) := dk_4 (dk_at dksX6_outside_0 5 rfl rfl)
theorem dX6_outside_6 : decode cX6_outside 6 = .ok (.iload_n 1, 1) := dk_27 (dk_at dksX6_outside_0 6 rfl rfl)
theorem dX6_outside_7 : decode cX6_outside 7 = .ok (.iadd, 1) := dk_96 (dk_at dksX6_outside_0 7 rfl rfl)
theorem dX6_outside_8 : decode cX6_outside 8 = .ok (.invokevirtual 105, 3) := dk_182 0 105 (dk_at dksX6_outside_0 8 rfl rfl)
theorem dX6_outside_11 : decode cX6_outside 11 = .ok (.ldc2_w 95, 3) := dk_20 0 95 (dk_at dksX6_outside_0 11 rfl rfl)
theorem dX6_outside_14 : decode cX6_outside 14 = .ok (.lxor, 1) := dk_131 (dk_at dksX6_outside_0 14 rfl rfl)
theorem dX6_outside_15 : decode cX6_outside 15 = .ok (.land, 1) := dk_127 (dk_at dksX6_outside_0 15 rfl rfl)
theorem dX6_outside_16 : decode cX6_outside 16 = .ok (.aload_n 0, 1) := dk_42 (dk_at dksX6_outside_0 16 rfl rfl)
theorem dX6_outside_17 : decode cX6_outside 17 = .ok (.iconst 3, 1) := dk_6 (dk_at dksX6_outside_0 17 rfl rfl)
theorem dX6_outside_18 : decode cX6_outside 18 = .ok (.iload_n 1, 1) := dk_27 (dk_at dksX6_outside_0 18 rfl rfl)
theorem dX6_outside_19 : decode cX6_outside 19 = .ok (.iadd, 1) := dk_96 (dk_at dksX6_outside_0 19 rfl rfl)
theorem dX6_outside_20 : decode cX6_outside 20 = .ok (.invokevirtual 105, 3) := dk_182 0 105 (dk_at dksX6_outside_0 20 rfl rfl)
theorem dX6_outside_23 : decode cX6_outside 23 = .ok (.ldc2_w 95, 3) := dk_20 0 95 (dk_at dksX6_outside_1 0 rfl rfl)
theorem dX6_outside_26 : decode cX6_outside 26 = .ok (.lxor, 1) := dk_131 (dk_at dksX6_outside_1 3 rfl rfl)
theorem dX6_outside_27 : decode cX6_outside 27 = .ok (.land, 1) := dk_127 (dk_at dksX6_outside_1 4 rfl rfl)
theorem dX6_outside_28 : decode cX6_outside 28 = .ok (.aload_n 0, 1) := dk_42 (dk_at dksX6_outside_1 5 rfl rfl)
theorem dX6_outside_29 : decode cX6_outside 29 = .ok (.iconst 5, 1) := dk_8 (dk_at dksX6_outside_1 6 rfl rfl)
theorem dX6_outside_30 : decode cX6_outside 30 = .ok (.invokevirtual 105, 3) := dk_182 0 105 (dk_at dksX6_outside_1 7 rfl rfl)
theorem dX6_outside_33 : decode cX6_outside 33 = .ok (.ldc2_w 95, 3) := dk_20 0 95 (dk_at dksX6_outside_1 10 rfl rfl)
theorem dX6_outside_36 : decode cX6_outside 36 = .ok (.lxor, 1) := dk_131 (dk_at dksX6_outside_1 13 rfl rfl)
theorem dX6_outside_37 : decode cX6_outside 37 = .ok (.land, 1) := dk_127 (dk_at dksX6_outside_1 14 rfl rfl)
theorem dX6_outside_38 : decode cX6_outside 38 = .ok (.lreturn, 1) := dk_173 (dk_at dksX6_outside_1 15 rfl rfl)
abbrev cX6_all : ByteArray := prog_14_method_14_code
def yX6_all : MethodName := ⟨RX6, "all", "()J"⟩
def dkwX6_all_0 : List UInt8 := [10, 42, 182, 0, 76, 121, 10, 101, 173]
abbrev dktX6_all_0 : List UInt8 := dkwX6_all_0 ++ []
theorem dksX6_all_0 : cX6_all.data.toList.drop 0 = dktX6_all_0 := by decide +kernel
theorem dX6_all_0 : decode cX6_all 0 = .ok (.lconst 1, 1) := dk_10 (dk_at dksX6_all_0 0 rfl rfl)
theorem dX6_all_1 : decode cX6_all 1 = .ok (.aload_n 0, 1) := dk_42 (dk_at dksX6_all_0 1 rfl rfl)
theorem dX6_all_2 : decode cX6_all 2 = .ok (.invokevirtual 76, 3) := dk_182 0 76 (dk_at dksX6_all_0 2 rfl rfl)
theorem dX6_all_5 : decode cX6_all 5 = .ok (.lshl, 1) := dk_121 (dk_at dksX6_all_0 5 rfl rfl)
theorem dX6_all_6 : decode cX6_all 6 = .ok (.lconst 1, 1) := dk_10 (dk_at dksX6_all_0 6 rfl rfl)
theorem dX6_all_7 : decode cX6_all 7 = .ok (.lsub, 1) := dk_101 (dk_at dksX6_all_0 7 rfl rfl)
theorem dX6_all_8 : decode cX6_all 8 = .ok (.lreturn, 1) := dk_173 (dk_at dksX6_all_0 8 rfl rfl)
abbrev cX6_bits : ByteArray := prog_14_method_13_code
def yX6_bits : MethodName := ⟨RX6, "bits", "(I)J"⟩
def dkwX6_bits_1 : List UInt8 := [160, 0, 10, 10, 21, 4, 121, 167, 0, 4, 9, 129, 65, 132, 4, 1, 167, 255, 222, 32, 173]
abbrev dktX6_bits_1 : List UInt8 := dkwX6_bits_1 ++ []
def dkwX6_bits_0 : List UInt8 := [9, 65, 3, 54, 4, 21, 4, 42, 182, 0, 76, 162, 0, 31, 32, 42, 180, 0, 20, 21, 4, 46, 27]
abbrev dktX6_bits_0 : List UInt8 := dkwX6_bits_0 ++ dktX6_bits_1
theorem dksX6_bits_0 : cX6_bits.data.toList.drop 0 = dktX6_bits_0 := by decide +kernel
theorem dksX6_bits_1 : cX6_bits.data.toList.drop 23 = dktX6_bits_1 := dk_seg dksX6_bits_0 23 rfl rfl
theorem dX6_bits_0 : decode cX6_bits 0 = .ok (.lconst 0, 1) := dk_9 (dk_at dksX6_bits_0 0 rfl rfl)
theorem dX6_bits_1 : decode cX6_bits 1 = .ok (.lstore_n 2, 1) := dk_65 (dk_at dksX6_bits_0 1 rfl rfl)
theorem dX6_bits_2 : decode cX6_bits 2 = .ok (.iconst 0, 1) := dk_3 (dk_at dksX6_bits_0 2 rfl rfl)
theorem dX6_bits_3 : decode cX6_bits 3 = .ok (.istore 4, 2) := dk_54 4 (dk_at dksX6_bits_0 3 rfl rfl)
theorem dX6_bits_5 : decode cX6_bits 5 = .ok (.iload 4, 2) := dk_21 4 (dk_at dksX6_bits_0 5 rfl rfl)
theorem dX6_bits_7 : decode cX6_bits 7 = .ok (.aload_n 0, 1) := dk_42 (dk_at dksX6_bits_0 7 rfl rfl)
theorem dX6_bits_8 : decode cX6_bits 8 = .ok (.invokevirtual 76, 3) := dk_182 0 76 (dk_at dksX6_bits_0 8 rfl rfl)
theorem dX6_bits_11 : decode cX6_bits 11 = .ok (.if_icmp .ge 31, 3) := dk_162 0 31 (dk_at dksX6_bits_0 11 rfl rfl)
theorem dX6_bits_14 : decode cX6_bits 14 = .ok (.lload_n 2, 1) := dk_32 (dk_at dksX6_bits_0 14 rfl rfl)
theorem dX6_bits_15 : decode cX6_bits 15 = .ok (.aload_n 0, 1) := dk_42 (dk_at dksX6_bits_0 15 rfl rfl)
theorem dX6_bits_16 : decode cX6_bits 16 = .ok (.getfield 20, 3) := dk_180 0 20 (dk_at dksX6_bits_0 16 rfl rfl)
theorem dX6_bits_19 : decode cX6_bits 19 = .ok (.iload 4, 2) := dk_21 4 (dk_at dksX6_bits_0 19 rfl rfl)
theorem dX6_bits_21 : decode cX6_bits 21 = .ok (.iaload, 1) := dk_46 (dk_at dksX6_bits_0 21 rfl rfl)
theorem dX6_bits_22 : decode cX6_bits 22 = .ok (.iload_n 1, 1) := dk_27 (dk_at dksX6_bits_0 22 rfl rfl)
theorem dX6_bits_23 : decode cX6_bits 23 = .ok (.if_icmp .ne 10, 3) := dk_160 0 10 (dk_at dksX6_bits_1 0 rfl rfl)
theorem dX6_bits_26 : decode cX6_bits 26 = .ok (.lconst 1, 1) := dk_10 (dk_at dksX6_bits_1 3 rfl rfl)
theorem dX6_bits_27 : decode cX6_bits 27 = .ok (.iload 4, 2) := dk_21 4 (dk_at dksX6_bits_1 4 rfl rfl)
theorem dX6_bits_29 : decode cX6_bits 29 = .ok (.lshl, 1) := dk_121 (dk_at dksX6_bits_1 6 rfl rfl)
theorem dX6_bits_30 : decode cX6_bits 30 = .ok (.goto 4, 3) := dk_167 0 4 (dk_at dksX6_bits_1 7 rfl rfl)
theorem dX6_bits_33 : decode cX6_bits 33 = .ok (.lconst 0, 1) := dk_9 (dk_at dksX6_bits_1 10 rfl rfl)
theorem dX6_bits_34 : decode cX6_bits 34 = .ok (.lor, 1) := dk_129 (dk_at dksX6_bits_1 11 rfl rfl)
theorem dX6_bits_35 : decode cX6_bits 35 = .ok (.lstore_n 2, 1) := dk_65 (dk_at dksX6_bits_1 12 rfl rfl)
theorem dX6_bits_36 : decode cX6_bits 36 = .ok (.iinc 4 1, 3) := dk_132 4 1 (dk_at dksX6_bits_1 13 rfl rfl)
theorem dX6_bits_39 : decode cX6_bits 39 = .ok (.goto (-34), 3) := dk_167 255 222 (dk_at dksX6_bits_1 16 rfl rfl)
theorem dX6_bits_42 : decode cX6_bits 42 = .ok (.lload_n 2, 1) := dk_32 (dk_at dksX6_bits_1 19 rfl rfl)
theorem dX6_bits_43 : decode cX6_bits 43 = .ok (.lreturn, 1) := dk_173 (dk_at dksX6_bits_1 20 rfl rfl)
abbrev cX6_edge : ByteArray := prog_14_method_16_code
def yX6_edge : MethodName := ⟨RX6, "edge", "()J"⟩
def dkwX6_edge_1 : List UInt8 := [129, 31, 129, 31, 42, 180, 0, 13, 4, 100, 42, 180, 0, 9, 104, 121, 129, 173]
abbrev dktX6_edge_1 : List UInt8 := dkwX6_edge_1 ++ []
def dkwX6_edge_0 : List UInt8 := [10, 42, 180, 0, 9, 121, 10, 101, 64, 42, 3, 182, 0, 91, 42, 42, 180, 0, 9, 4, 100, 182, 0, 91]
abbrev dktX6_edge_0 : List UInt8 := dkwX6_edge_0 ++ dktX6_edge_1
theorem dksX6_edge_0 : cX6_edge.data.toList.drop 0 = dktX6_edge_0 := by decide +kernel
theorem dksX6_edge_1 : cX6_edge.data.toList.drop 24 = dktX6_edge_1 := dk_seg dksX6_edge_0 24 rfl rfl
theorem dX6_edge_0 : decode cX6_edge 0 = .ok (.lconst 1, 1) := dk_10 (dk_at dksX6_edge_0 0 rfl rfl)
theorem dX6_edge_1 : decode cX6_edge 1 = .ok (.aload_n 0, 1) := dk_42 (dk_at dksX6_edge_0 1 rfl rfl)
theorem dX6_edge_2 : decode cX6_edge 2 = .ok (.getfield 9, 3) := dk_180 0 9 (dk_at dksX6_edge_0 2 rfl rfl)
theorem dX6_edge_5 : decode cX6_edge 5 = .ok (.lshl, 1) := dk_121 (dk_at dksX6_edge_0 5 rfl rfl)
theorem dX6_edge_6 : decode cX6_edge 6 = .ok (.lconst 1, 1) := dk_10 (dk_at dksX6_edge_0 6 rfl rfl)
theorem dX6_edge_7 : decode cX6_edge 7 = .ok (.lsub, 1) := dk_101 (dk_at dksX6_edge_0 7 rfl rfl)
theorem dX6_edge_8 : decode cX6_edge 8 = .ok (.lstore_n 1, 1) := dk_64 (dk_at dksX6_edge_0 8 rfl rfl)
theorem dX6_edge_9 : decode cX6_edge 9 = .ok (.aload_n 0, 1) := dk_42 (dk_at dksX6_edge_0 9 rfl rfl)
theorem dX6_edge_10 : decode cX6_edge 10 = .ok (.iconst 0, 1) := dk_3 (dk_at dksX6_edge_0 10 rfl rfl)
theorem dX6_edge_11 : decode cX6_edge 11 = .ok (.invokevirtual 91, 3) := dk_182 0 91 (dk_at dksX6_edge_0 11 rfl rfl)
theorem dX6_edge_14 : decode cX6_edge 14 = .ok (.aload_n 0, 1) := dk_42 (dk_at dksX6_edge_0 14 rfl rfl)
theorem dX6_edge_15 : decode cX6_edge 15 = .ok (.aload_n 0, 1) := dk_42 (dk_at dksX6_edge_0 15 rfl rfl)
theorem dX6_edge_16 : decode cX6_edge 16 = .ok (.getfield 9, 3) := dk_180 0 9 (dk_at dksX6_edge_0 16 rfl rfl)
theorem dX6_edge_19 : decode cX6_edge 19 = .ok (.iconst 1, 1) := dk_4 (dk_at dksX6_edge_0 19 rfl rfl)
theorem dX6_edge_20 : decode cX6_edge 20 = .ok (.isub, 1) := dk_100 (dk_at dksX6_edge_0 20 rfl rfl)
theorem dX6_edge_21 : decode cX6_edge 21 = .ok (.invokevirtual 91, 3) := dk_182 0 91 (dk_at dksX6_edge_0 21 rfl rfl)
theorem dX6_edge_24 : decode cX6_edge 24 = .ok (.lor, 1) := dk_129 (dk_at dksX6_edge_1 0 rfl rfl)
theorem dX6_edge_25 : decode cX6_edge 25 = .ok (.lload_n 1, 1) := dk_31 (dk_at dksX6_edge_1 1 rfl rfl)
theorem dX6_edge_26 : decode cX6_edge 26 = .ok (.lor, 1) := dk_129 (dk_at dksX6_edge_1 2 rfl rfl)
theorem dX6_edge_27 : decode cX6_edge 27 = .ok (.lload_n 1, 1) := dk_31 (dk_at dksX6_edge_1 3 rfl rfl)
theorem dX6_edge_28 : decode cX6_edge 28 = .ok (.aload_n 0, 1) := dk_42 (dk_at dksX6_edge_1 4 rfl rfl)
theorem dX6_edge_29 : decode cX6_edge 29 = .ok (.getfield 13, 3) := dk_180 0 13 (dk_at dksX6_edge_1 5 rfl rfl)
theorem dX6_edge_32 : decode cX6_edge 32 = .ok (.iconst 1, 1) := dk_4 (dk_at dksX6_edge_1 8 rfl rfl)
theorem dX6_edge_33 : decode cX6_edge 33 = .ok (.isub, 1) := dk_100 (dk_at dksX6_edge_1 9 rfl rfl)
theorem dX6_edge_34 : decode cX6_edge 34 = .ok (.aload_n 0, 1) := dk_42 (dk_at dksX6_edge_1 10 rfl rfl)
theorem dX6_edge_35 : decode cX6_edge 35 = .ok (.getfield 9, 3) := dk_180 0 9 (dk_at dksX6_edge_1 11 rfl rfl)
theorem dX6_edge_38 : decode cX6_edge 38 = .ok (.imul, 1) := dk_104 (dk_at dksX6_edge_1 14 rfl rfl)
theorem dX6_edge_39 : decode cX6_edge 39 = .ok (.lshl, 1) := dk_121 (dk_at dksX6_edge_1 15 rfl rfl)
theorem dX6_edge_40 : decode cX6_edge 40 = .ok (.lor, 1) := dk_129 (dk_at dksX6_edge_1 16 rfl rfl)
theorem dX6_edge_41 : decode cX6_edge 41 = .ok (.lreturn, 1) := dk_173 (dk_at dksX6_edge_1 17 rfl rfl)
abbrev cX6_column : ByteArray := prog_14_method_15_code
def yX6_column : MethodName := ⟨RX6, "column", "(I)J"⟩
def dkwX6_column_1 : List UInt8 := [96, 121, 129, 65, 132, 4, 1, 167, 255, 230, 32, 173]
abbrev dktX6_column_1 : List UInt8 := dkwX6_column_1 ++ []
def dkwX6_column_0 : List UInt8 := [9, 65, 3, 54, 4, 21, 4, 42, 180, 0, 13, 162, 0, 23, 32, 10, 21, 4, 42, 180, 0, 9, 104, 27]
abbrev dktX6_column_0 : List UInt8 := dkwX6_column_0 ++ dktX6_column_1
theorem dksX6_column_0 : cX6_column.data.toList.drop 0 = dktX6_column_0 := by decide +kernel
theorem dksX6_column_1 : cX6_column.data.toList.drop 24 = dktX6_column_1 := dk_seg dksX6_column_0 24 rfl rfl
theorem dX6_column_0 : decode cX6_column 0 = .ok (.lconst 0, 1) := dk_9 (dk_at dksX6_column_0 0 rfl rfl)
theorem dX6_column_1 : decode cX6_column 1 = .ok (.lstore_n 2, 1) := dk_65 (dk_at dksX6_column_0 1 rfl rfl)
theorem dX6_column_2 : decode cX6_column 2 = .ok (.iconst 0, 1) := dk_3 (dk_at dksX6_column_0 2 rfl rfl)
theorem dX6_column_3 : decode cX6_column 3 = .ok (.istore 4, 2) := dk_54 4 (dk_at dksX6_column_0 3 rfl rfl)
theorem dX6_column_5 : decode cX6_column 5 = .ok (.iload 4, 2) := dk_21 4 (dk_at dksX6_column_0 5 rfl rfl)
theorem dX6_column_7 : decode cX6_column 7 = .ok (.aload_n 0, 1) := dk_42 (dk_at dksX6_column_0 7 rfl rfl)
theorem dX6_column_8 : decode cX6_column 8 = .ok (.getfield 13, 3) := dk_180 0 13 (dk_at dksX6_column_0 8 rfl rfl)
theorem dX6_column_11 : decode cX6_column 11 = .ok (.if_icmp .ge 23, 3) := dk_162 0 23 (dk_at dksX6_column_0 11 rfl rfl)
theorem dX6_column_14 : decode cX6_column 14 = .ok (.lload_n 2, 1) := dk_32 (dk_at dksX6_column_0 14 rfl rfl)
theorem dX6_column_15 : decode cX6_column 15 = .ok (.lconst 1, 1) := dk_10 (dk_at dksX6_column_0 15 rfl rfl)
theorem dX6_column_16 : decode cX6_column 16 = .ok (.iload 4, 2) := dk_21 4 (dk_at dksX6_column_0 16 rfl rfl)
theorem dX6_column_18 : decode cX6_column 18 = .ok (.aload_n 0, 1) := dk_42 (dk_at dksX6_column_0 18 rfl rfl)
theorem dX6_column_19 : decode cX6_column 19 = .ok (.getfield 9, 3) := dk_180 0 9 (dk_at dksX6_column_0 19 rfl rfl)
theorem dX6_column_22 : decode cX6_column 22 = .ok (.imul, 1) := dk_104 (dk_at dksX6_column_0 22 rfl rfl)
theorem dX6_column_23 : decode cX6_column 23 = .ok (.iload_n 1, 1) := dk_27 (dk_at dksX6_column_0 23 rfl rfl)
theorem dX6_column_24 : decode cX6_column 24 = .ok (.iadd, 1) := dk_96 (dk_at dksX6_column_1 0 rfl rfl)
theorem dX6_column_25 : decode cX6_column 25 = .ok (.lshl, 1) := dk_121 (dk_at dksX6_column_1 1 rfl rfl)
theorem dX6_column_26 : decode cX6_column 26 = .ok (.lor, 1) := dk_129 (dk_at dksX6_column_1 2 rfl rfl)
theorem dX6_column_27 : decode cX6_column 27 = .ok (.lstore_n 2, 1) := dk_65 (dk_at dksX6_column_1 3 rfl rfl)
theorem dX6_column_28 : decode cX6_column 28 = .ok (.iinc 4 1, 3) := dk_132 4 1 (dk_at dksX6_column_1 4 rfl rfl)
theorem dX6_column_31 : decode cX6_column 31 = .ok (.goto (-26), 3) := dk_167 255 230 (dk_at dksX6_column_1 7 rfl rfl)
theorem dX6_column_34 : decode cX6_column 34 = .ok (.lload_n 2, 1) := dk_32 (dk_at dksX6_column_1 10 rfl rfl)
theorem dX6_column_35 : decode cX6_column 35 = .ok (.lreturn, 1) := dk_173 (dk_at dksX6_column_1 11 rfl rfl)
abbrev cX6_lowest : ByteArray := prog_14_method_20_code
def yX6_lowest : MethodName := ⟨RX6, "lowest", "(J)I"⟩
def dkwX6_lowest_0 : List UInt8 := [3, 61, 30, 28, 123, 10, 127, 9, 148, 154, 0, 9, 132, 2, 1, 167, 255, 243, 28, 172]
abbrev dktX6_lowest_0 : List UInt8 := dkwX6_lowest_0 ++ []
theorem dksX6_lowest_0 : cX6_lowest.data.toList.drop 0 = dktX6_lowest_0 := by decide +kernel
theorem dX6_lowest_0 : decode cX6_lowest 0 = .ok (.iconst 0, 1) := dk_3 (dk_at dksX6_lowest_0 0 rfl rfl)
theorem dX6_lowest_1 : decode cX6_lowest 1 = .ok (.istore_n 2, 1) := dk_61 (dk_at dksX6_lowest_0 1 rfl rfl)
theorem dX6_lowest_2 : decode cX6_lowest 2 = .ok (.lload_n 0, 1) := dk_30 (dk_at dksX6_lowest_0 2 rfl rfl)
theorem dX6_lowest_3 : decode cX6_lowest 3 = .ok (.iload_n 2, 1) := dk_28 (dk_at dksX6_lowest_0 3 rfl rfl)
theorem dX6_lowest_4 : decode cX6_lowest 4 = .ok (.lshr, 1) := dk_123 (dk_at dksX6_lowest_0 4 rfl rfl)
theorem dX6_lowest_5 : decode cX6_lowest 5 = .ok (.lconst 1, 1) := dk_10 (dk_at dksX6_lowest_0 5 rfl rfl)
theorem dX6_lowest_6 : decode cX6_lowest 6 = .ok (.land, 1) := dk_127 (dk_at dksX6_lowest_0 6 rfl rfl)
theorem dX6_lowest_7 : decode cX6_lowest 7 = .ok (.lconst 0, 1) := dk_9 (dk_at dksX6_lowest_0 7 rfl rfl)
theorem dX6_lowest_8 : decode cX6_lowest 8 = .ok (.lcmp, 1) := dk_148 (dk_at dksX6_lowest_0 8 rfl rfl)
theorem dX6_lowest_9 : decode cX6_lowest 9 = .ok (.ifCond .ne 9, 3) := dk_154 0 9 (dk_at dksX6_lowest_0 9 rfl rfl)
theorem dX6_lowest_12 : decode cX6_lowest 12 = .ok (.iinc 2 1, 3) := dk_132 2 1 (dk_at dksX6_lowest_0 12 rfl rfl)
theorem dX6_lowest_15 : decode cX6_lowest 15 = .ok (.goto (-13), 3) := dk_167 255 243 (dk_at dksX6_lowest_0 15 rfl rfl)
theorem dX6_lowest_18 : decode cX6_lowest 18 = .ok (.iload_n 2, 1) := dk_28 (dk_at dksX6_lowest_0 18 rfl rfl)
theorem dX6_lowest_19 : decode cX6_lowest 19 = .ok (.ireturn, 1) := dk_172 (dk_at dksX6_lowest_0 19 rfl rfl)
abbrev cX6_connected : ByteArray := prog_14_method_18_code
def yX6_connected : MethodName := ⟨RX6, "connected", "(JI)J"⟩
def dkwX6_connected_1 : List UInt8 := [22, 6, 55, 4, 42, 22, 4, 182, 0, 101, 31, 127, 55, 6, 167, 255, 234, 22, 4, 173]
abbrev dktX6_connected_1 : List UInt8 := dkwX6_connected_1 ++ []
def dkwX6_connected_0 : List UInt8 := [10, 29, 121, 55, 4, 42, 22, 4, 182, 0, 101, 31, 127, 55, 6, 22, 6, 22, 4, 148, 153, 0, 20]
abbrev dktX6_connected_0 : List UInt8 := dkwX6_connected_0 ++ dktX6_connected_1
theorem dksX6_connected_0 : cX6_connected.data.toList.drop 0 = dktX6_connected_0 := by decide +kernel
theorem dksX6_connected_1 : cX6_connected.data.toList.drop 23 = dktX6_connected_1 := dk_seg dksX6_connected_0 23 rfl rfl
theorem dX6_connected_0 : decode cX6_connected 0 = .ok (.lconst 1, 1) := dk_10 (dk_at dksX6_connected_0 0 rfl rfl)
theorem dX6_connected_1 : decode cX6_connected 1 = .ok (.iload_n 3, 1) := dk_29 (dk_at dksX6_connected_0 1 rfl rfl)
theorem dX6_connected_2 : decode cX6_connected 2 = .ok (.lshl, 1) := dk_121 (dk_at dksX6_connected_0 2 rfl rfl)
theorem dX6_connected_3 : decode cX6_connected 3 = .ok (.lstore 4, 2) := dk_55 4 (dk_at dksX6_connected_0 3 rfl rfl)
theorem dX6_connected_5 : decode cX6_connected 5 = .ok (.aload_n 0, 1) := dk_42 (dk_at dksX6_connected_0 5 rfl rfl)
theorem dX6_connected_6 : decode cX6_connected 6 = .ok (.lload 4, 2) := dk_22 4 (dk_at dksX6_connected_0 6 rfl rfl)
theorem dX6_connected_8 : decode cX6_connected 8 = .ok (.invokevirtual 101, 3) := dk_182 0 101 (dk_at dksX6_connected_0 8 rfl rfl)
theorem dX6_connected_11 : decode cX6_connected 11 = .ok (.lload_n 1, 1) := dk_31 (dk_at dksX6_connected_0 11 rfl rfl)
theorem dX6_connected_12 : decode cX6_connected 12 = .ok (.land, 1) := dk_127 (dk_at dksX6_connected_0 12 rfl rfl)
theorem dX6_connected_13 : decode cX6_connected 13 = .ok (.lstore 6, 2) := dk_55 6 (dk_at dksX6_connected_0 13 rfl rfl)
theorem dX6_connected_15 : decode cX6_connected 15 = .ok (.lload 6, 2) := dk_22 6 (dk_at dksX6_connected_0 15 rfl rfl)
theorem dX6_connected_17 : decode cX6_connected 17 = .ok (.lload 4, 2) := dk_22 4 (dk_at dksX6_connected_0 17 rfl rfl)
theorem dX6_connected_19 : decode cX6_connected 19 = .ok (.lcmp, 1) := dk_148 (dk_at dksX6_connected_0 19 rfl rfl)
theorem dX6_connected_20 : decode cX6_connected 20 = .ok (.ifCond .eq 20, 3) := dk_153 0 20 (dk_at dksX6_connected_0 20 rfl rfl)
theorem dX6_connected_23 : decode cX6_connected 23 = .ok (.lload 6, 2) := dk_22 6 (dk_at dksX6_connected_1 0 rfl rfl)
theorem dX6_connected_25 : decode cX6_connected 25 = .ok (.lstore 4, 2) := dk_55 4 (dk_at dksX6_connected_1 2 rfl rfl)
theorem dX6_connected_27 : decode cX6_connected 27 = .ok (.aload_n 0, 1) := dk_42 (dk_at dksX6_connected_1 4 rfl rfl)
theorem dX6_connected_28 : decode cX6_connected 28 = .ok (.lload 4, 2) := dk_22 4 (dk_at dksX6_connected_1 5 rfl rfl)
theorem dX6_connected_30 : decode cX6_connected 30 = .ok (.invokevirtual 101, 3) := dk_182 0 101 (dk_at dksX6_connected_1 7 rfl rfl)
theorem dX6_connected_33 : decode cX6_connected 33 = .ok (.lload_n 1, 1) := dk_31 (dk_at dksX6_connected_1 10 rfl rfl)
theorem dX6_connected_34 : decode cX6_connected 34 = .ok (.land, 1) := dk_127 (dk_at dksX6_connected_1 11 rfl rfl)
theorem dX6_connected_35 : decode cX6_connected 35 = .ok (.lstore 6, 2) := dk_55 6 (dk_at dksX6_connected_1 12 rfl rfl)
theorem dX6_connected_37 : decode cX6_connected 37 = .ok (.goto (-22), 3) := dk_167 255 234 (dk_at dksX6_connected_1 14 rfl rfl)
theorem dX6_connected_40 : decode cX6_connected 40 = .ok (.lload 4, 2) := dk_22 4 (dk_at dksX6_connected_1 17 rfl rfl)
theorem dX6_connected_42 : decode cX6_connected 42 = .ok (.lreturn, 1) := dk_173 (dk_at dksX6_connected_1 19 rfl rfl)
abbrev cX6_grown : ByteArray := prog_14_method_17_code
def yX6_grown : MethodName := ⟨RX6, "grown", "(J)J"⟩
def dkwX6_grown_2 : List UInt8 := [129, 42, 182, 0, 97, 127, 173]
abbrev dktX6_grown_2 : List UInt8 := dkwX6_grown_2 ++ []
def dkwX6_grown_1 : List UInt8 := [182, 0, 91, 20, 0, 95, 131, 127, 4, 121, 129, 31, 42, 180, 0, 9, 125, 129, 31, 42, 180, 0, 9, 121]
abbrev dktX6_grown_1 : List UInt8 := dkwX6_grown_1 ++ dktX6_grown_2
def dkwX6_grown_0 : List UInt8 := [31, 31, 42, 3, 182, 0, 91, 20, 0, 95, 131, 127, 4, 125, 129, 31, 42, 42, 180, 0, 9, 4, 100]
abbrev dktX6_grown_0 : List UInt8 := dkwX6_grown_0 ++ dktX6_grown_1
theorem dksX6_grown_0 : cX6_grown.data.toList.drop 0 = dktX6_grown_0 := by decide +kernel
theorem dksX6_grown_1 : cX6_grown.data.toList.drop 23 = dktX6_grown_1 := dk_seg dksX6_grown_0 23 rfl rfl
theorem dksX6_grown_2 : cX6_grown.data.toList.drop 47 = dktX6_grown_2 := dk_seg dksX6_grown_1 24 rfl rfl
theorem dX6_grown_0 : decode cX6_grown 0 = .ok (.lload_n 1, 1) := dk_31 (dk_at dksX6_grown_0 0 rfl rfl)
theorem dX6_grown_1 : decode cX6_grown 1 = .ok (.lload_n 1, 1) := dk_31 (dk_at dksX6_grown_0 1 rfl rfl)
theorem dX6_grown_2 : decode cX6_grown 2 = .ok (.aload_n 0, 1) := dk_42 (dk_at dksX6_grown_0 2 rfl rfl)
theorem dX6_grown_3 : decode cX6_grown 3 = .ok (.iconst 0, 1) := dk_3 (dk_at dksX6_grown_0 3 rfl rfl)
theorem dX6_grown_4 : decode cX6_grown 4 = .ok (.invokevirtual 91, 3) := dk_182 0 91 (dk_at dksX6_grown_0 4 rfl rfl)
theorem dX6_grown_7 : decode cX6_grown 7 = .ok (.ldc2_w 95, 3) := dk_20 0 95 (dk_at dksX6_grown_0 7 rfl rfl)
theorem dX6_grown_10 : decode cX6_grown 10 = .ok (.lxor, 1) := dk_131 (dk_at dksX6_grown_0 10 rfl rfl)
theorem dX6_grown_11 : decode cX6_grown 11 = .ok (.land, 1) := dk_127 (dk_at dksX6_grown_0 11 rfl rfl)
theorem dX6_grown_12 : decode cX6_grown 12 = .ok (.iconst 1, 1) := dk_4 (dk_at dksX6_grown_0 12 rfl rfl)
theorem dX6_grown_13 : decode cX6_grown 13 = .ok (.lushr, 1) := dk_125 (dk_at dksX6_grown_0 13 rfl rfl)
theorem dX6_grown_14 : decode cX6_grown 14 = .ok (.lor, 1) := dk_129 (dk_at dksX6_grown_0 14 rfl rfl)
theorem dX6_grown_15 : decode cX6_grown 15 = .ok (.lload_n 1, 1) := dk_31 (dk_at dksX6_grown_0 15 rfl rfl)
theorem dX6_grown_16 : decode cX6_grown 16 = .ok (.aload_n 0, 1) := dk_42 (dk_at dksX6_grown_0 16 rfl rfl)
theorem dX6_grown_17 : decode cX6_grown 17 = .ok (.aload_n 0, 1) := dk_42 (dk_at dksX6_grown_0 17 rfl rfl)
theorem dX6_grown_18 : decode cX6_grown 18 = .ok (.getfield 9, 3) := dk_180 0 9 (dk_at dksX6_grown_0 18 rfl rfl)
theorem dX6_grown_21 : decode cX6_grown 21 = .ok (.iconst 1, 1) := dk_4 (dk_at dksX6_grown_0 21 rfl rfl)
theorem dX6_grown_22 : decode cX6_grown 22 = .ok (.isub, 1) := dk_100 (dk_at dksX6_grown_0 22 rfl rfl)
theorem dX6_grown_23 : decode cX6_grown 23 = .ok (.invokevirtual 91, 3) := dk_182 0 91 (dk_at dksX6_grown_1 0 rfl rfl)
theorem dX6_grown_26 : decode cX6_grown 26 = .ok (.ldc2_w 95, 3) := dk_20 0 95 (dk_at dksX6_grown_1 3 rfl rfl)
theorem dX6_grown_29 : decode cX6_grown 29 = .ok (.lxor, 1) := dk_131 (dk_at dksX6_grown_1 6 rfl rfl)
theorem dX6_grown_30 : decode cX6_grown 30 = .ok (.land, 1) := dk_127 (dk_at dksX6_grown_1 7 rfl rfl)
theorem dX6_grown_31 : decode cX6_grown 31 = .ok (.iconst 1, 1) := dk_4 (dk_at dksX6_grown_1 8 rfl rfl)
theorem dX6_grown_32 : decode cX6_grown 32 = .ok (.lshl, 1) := dk_121 (dk_at dksX6_grown_1 9 rfl rfl)
theorem dX6_grown_33 : decode cX6_grown 33 = .ok (.lor, 1) := dk_129 (dk_at dksX6_grown_1 10 rfl rfl)
theorem dX6_grown_34 : decode cX6_grown 34 = .ok (.lload_n 1, 1) := dk_31 (dk_at dksX6_grown_1 11 rfl rfl)
theorem dX6_grown_35 : decode cX6_grown 35 = .ok (.aload_n 0, 1) := dk_42 (dk_at dksX6_grown_1 12 rfl rfl)
theorem dX6_grown_36 : decode cX6_grown 36 = .ok (.getfield 9, 3) := dk_180 0 9 (dk_at dksX6_grown_1 13 rfl rfl)
theorem dX6_grown_39 : decode cX6_grown 39 = .ok (.lushr, 1) := dk_125 (dk_at dksX6_grown_1 16 rfl rfl)
theorem dX6_grown_40 : decode cX6_grown 40 = .ok (.lor, 1) := dk_129 (dk_at dksX6_grown_1 17 rfl rfl)
theorem dX6_grown_41 : decode cX6_grown 41 = .ok (.lload_n 1, 1) := dk_31 (dk_at dksX6_grown_1 18 rfl rfl)
theorem dX6_grown_42 : decode cX6_grown 42 = .ok (.aload_n 0, 1) := dk_42 (dk_at dksX6_grown_1 19 rfl rfl)
theorem dX6_grown_43 : decode cX6_grown 43 = .ok (.getfield 9, 3) := dk_180 0 9 (dk_at dksX6_grown_1 20 rfl rfl)
theorem dX6_grown_46 : decode cX6_grown 46 = .ok (.lshl, 1) := dk_121 (dk_at dksX6_grown_1 23 rfl rfl)
theorem dX6_grown_47 : decode cX6_grown 47 = .ok (.lor, 1) := dk_129 (dk_at dksX6_grown_2 0 rfl rfl)
theorem dX6_grown_48 : decode cX6_grown 48 = .ok (.aload_n 0, 1) := dk_42 (dk_at dksX6_grown_2 1 rfl rfl)
theorem dX6_grown_49 : decode cX6_grown 49 = .ok (.invokevirtual 97, 3) := dk_182 0 97 (dk_at dksX6_grown_2 2 rfl rfl)
theorem dX6_grown_52 : decode cX6_grown 52 = .ok (.land, 1) := dk_127 (dk_at dksX6_grown_2 5 rfl rfl)
theorem dX6_grown_53 : decode cX6_grown 53 = .ok (.lreturn, 1) := dk_173 (dk_at dksX6_grown_2 6 rfl rfl)
abbrev cX6_size : ByteArray := prog_14_method_19_code
def yX6_size : MethodName := ⟨RX6, "size", "(J)I"⟩
def dkwX6_size_1 : List UInt8 := [167, 255, 238, 28, 172]
abbrev dktX6_size_1 : List UInt8 := dkwX6_size_1 ++ []
def dkwX6_size_0 : List UInt8 := [3, 61, 3, 62, 29, 16, 49, 162, 0, 18, 28, 30, 29, 123, 10, 127, 136, 96, 61, 132, 3, 1]
abbrev dktX6_size_0 : List UInt8 := dkwX6_size_0 ++ dktX6_size_1
theorem dksX6_size_0 : cX6_size.data.toList.drop 0 = dktX6_size_0 := by decide +kernel
theorem dksX6_size_1 : cX6_size.data.toList.drop 22 = dktX6_size_1 := dk_seg dksX6_size_0 22 rfl rfl
theorem dX6_size_0 : decode cX6_size 0 = .ok (.iconst 0, 1) := dk_3 (dk_at dksX6_size_0 0 rfl rfl)
theorem dX6_size_1 : decode cX6_size 1 = .ok (.istore_n 2, 1) := dk_61 (dk_at dksX6_size_0 1 rfl rfl)
theorem dX6_size_2 : decode cX6_size 2 = .ok (.iconst 0, 1) := dk_3 (dk_at dksX6_size_0 2 rfl rfl)
theorem dX6_size_3 : decode cX6_size 3 = .ok (.istore_n 3, 1) := dk_62 (dk_at dksX6_size_0 3 rfl rfl)
theorem dX6_size_4 : decode cX6_size 4 = .ok (.iload_n 3, 1) := dk_29 (dk_at dksX6_size_0 4 rfl rfl)
theorem dX6_size_5 : decode cX6_size 5 = .ok (.bipush 49, 2) := dk_16 49 (dk_at dksX6_size_0 5 rfl rfl)
theorem dX6_size_7 : decode cX6_size 7 = .ok (.if_icmp .ge 18, 3) := dk_162 0 18 (dk_at dksX6_size_0 7 rfl rfl)
theorem dX6_size_10 : decode cX6_size 10 = .ok (.iload_n 2, 1) := dk_28 (dk_at dksX6_size_0 10 rfl rfl)
theorem dX6_size_11 : decode cX6_size 11 = .ok (.lload_n 0, 1) := dk_30 (dk_at dksX6_size_0 11 rfl rfl)
theorem dX6_size_12 : decode cX6_size 12 = .ok (.iload_n 3, 1) := dk_29 (dk_at dksX6_size_0 12 rfl rfl)
theorem dX6_size_13 : decode cX6_size 13 = .ok (.lshr, 1) := dk_123 (dk_at dksX6_size_0 13 rfl rfl)
theorem dX6_size_14 : decode cX6_size 14 = .ok (.lconst 1, 1) := dk_10 (dk_at dksX6_size_0 14 rfl rfl)
theorem dX6_size_15 : decode cX6_size 15 = .ok (.land, 1) := dk_127 (dk_at dksX6_size_0 15 rfl rfl)
theorem dX6_size_16 : decode cX6_size 16 = .ok (.l2i, 1) := dk_136 (dk_at dksX6_size_0 16 rfl rfl)
theorem dX6_size_17 : decode cX6_size 17 = .ok (.iadd, 1) := dk_96 (dk_at dksX6_size_0 17 rfl rfl)
theorem dX6_size_18 : decode cX6_size 18 = .ok (.istore_n 2, 1) := dk_61 (dk_at dksX6_size_0 18 rfl rfl)
theorem dX6_size_19 : decode cX6_size 19 = .ok (.iinc 3 1, 3) := dk_132 3 1 (dk_at dksX6_size_0 19 rfl rfl)
theorem dX6_size_22 : decode cX6_size 22 = .ok (.goto (-18), 3) := dk_167 255 238 (dk_at dksX6_size_1 0 rfl rfl)
theorem dX6_size_25 : decode cX6_size 25 = .ok (.iload_n 2, 1) := dk_28 (dk_at dksX6_size_1 3 rfl rfl)
theorem dX6_size_26 : decode cX6_size 26 = .ok (.ireturn, 1) := dk_172 (dk_at dksX6_size_1 4 rfl rfl)
abbrev cX6_no : ByteArray := prog_14_method_3_code
def yX6_no : MethodName := ⟨RX6, "no", "(I)I"⟩
def dkwX6_no_0 : List UInt8 := [42, 27, 181, 0, 73, 3, 172]
abbrev dktX6_no_0 : List UInt8 := dkwX6_no_0 ++ []
theorem dksX6_no_0 : cX6_no.data.toList.drop 0 = dktX6_no_0 := by decide +kernel
theorem dX6_no_0 : decode cX6_no 0 = .ok (.aload_n 0, 1) := dk_42 (dk_at dksX6_no_0 0 rfl rfl)
theorem dX6_no_1 : decode cX6_no 1 = .ok (.iload_n 1, 1) := dk_27 (dk_at dksX6_no_0 1 rfl rfl)
theorem dX6_no_2 : decode cX6_no 2 = .ok (.putfield 73, 3) := dk_181 0 73 (dk_at dksX6_no_0 2 rfl rfl)
theorem dX6_no_5 : decode cX6_no 5 = .ok (.iconst 0, 1) := dk_3 (dk_at dksX6_no_0 5 rfl rfl)
theorem dX6_no_6 : decode cX6_no 6 = .ok (.ireturn, 1) := dk_172 (dk_at dksX6_no_0 6 rfl rfl)
abbrev cX6_undo : ByteArray := prog_14_method_34_code
def yX6_undo : MethodName := ⟨RX6, "undo", "()I"⟩
def dkwX6_undo_3 : List UInt8 := [167, 255, 228, 27, 172]
abbrev dktX6_undo_3 : List UInt8 := dkwX6_undo_3 ++ []
def dkwX6_undo_2 : List UInt8 := [162, 0, 27, 42, 180, 0, 20, 28, 42, 180, 0, 29, 17, 0, 155, 27, 104, 28, 96, 46, 79, 132, 2, 1]
abbrev dktX6_undo_2 : List UInt8 := dkwX6_undo_2 ++ dktX6_undo_3
def dkwX6_undo_1 : List UInt8 := [4, 160, 0, 5, 3, 172, 42, 180, 0, 20, 17, 0, 153, 46, 4, 100, 60, 3, 61, 28, 17, 0, 155]
abbrev dktX6_undo_1 : List UInt8 := dkwX6_undo_1 ++ dktX6_undo_2
def dkwX6_undo_0 : List UInt8 := [42, 42, 180, 0, 20, 17, 0, 153, 46, 154, 0, 7, 4, 167, 0, 4, 3, 181, 0, 73, 42, 180, 0, 73]
abbrev dktX6_undo_0 : List UInt8 := dkwX6_undo_0 ++ dktX6_undo_1
theorem dksX6_undo_0 : cX6_undo.data.toList.drop 0 = dktX6_undo_0 := by decide +kernel
theorem dksX6_undo_1 : cX6_undo.data.toList.drop 24 = dktX6_undo_1 := dk_seg dksX6_undo_0 24 rfl rfl
theorem dksX6_undo_2 : cX6_undo.data.toList.drop 47 = dktX6_undo_2 := dk_seg dksX6_undo_1 23 rfl rfl
theorem dksX6_undo_3 : cX6_undo.data.toList.drop 71 = dktX6_undo_3 := dk_seg dksX6_undo_2 24 rfl rfl
theorem dX6_undo_0 : decode cX6_undo 0 = .ok (.aload_n 0, 1) := dk_42 (dk_at dksX6_undo_0 0 rfl rfl)
theorem dX6_undo_1 : decode cX6_undo 1 = .ok (.aload_n 0, 1) := dk_42 (dk_at dksX6_undo_0 1 rfl rfl)
theorem dX6_undo_2 : decode cX6_undo 2 = .ok (.getfield 20, 3) := dk_180 0 20 (dk_at dksX6_undo_0 2 rfl rfl)
theorem dX6_undo_5 : decode cX6_undo 5 = .ok (.sipush 153, 3) := dk_17 0 153 (dk_at dksX6_undo_0 5 rfl rfl)
theorem dX6_undo_8 : decode cX6_undo 8 = .ok (.iaload, 1) := dk_46 (dk_at dksX6_undo_0 8 rfl rfl)
theorem dX6_undo_9 : decode cX6_undo 9 = .ok (.ifCond .ne 7, 3) := dk_154 0 7 (dk_at dksX6_undo_0 9 rfl rfl)
theorem dX6_undo_12 : decode cX6_undo 12 = .ok (.iconst 1, 1) := dk_4 (dk_at dksX6_undo_0 12 rfl rfl)
theorem dX6_undo_13 : decode cX6_undo 13 = .ok (.goto 4, 3) := dk_167 0 4 (dk_at dksX6_undo_0 13 rfl rfl)
theorem dX6_undo_16 : decode cX6_undo 16 = .ok (.iconst 0, 1) := dk_3 (dk_at dksX6_undo_0 16 rfl rfl)
theorem dX6_undo_17 : decode cX6_undo 17 = .ok (.putfield 73, 3) := dk_181 0 73 (dk_at dksX6_undo_0 17 rfl rfl)
theorem dX6_undo_20 : decode cX6_undo 20 = .ok (.aload_n 0, 1) := dk_42 (dk_at dksX6_undo_0 20 rfl rfl)
theorem dX6_undo_21 : decode cX6_undo 21 = .ok (.getfield 73, 3) := dk_180 0 73 (dk_at dksX6_undo_0 21 rfl rfl)
theorem dX6_undo_24 : decode cX6_undo 24 = .ok (.iconst 1, 1) := dk_4 (dk_at dksX6_undo_1 0 rfl rfl)
theorem dX6_undo_25 : decode cX6_undo 25 = .ok (.if_icmp .ne 5, 3) := dk_160 0 5 (dk_at dksX6_undo_1 1 rfl rfl)
theorem dX6_undo_28 : decode cX6_undo 28 = .ok (.iconst 0, 1) := dk_3 (dk_at dksX6_undo_1 4 rfl rfl)
theorem dX6_undo_29 : decode cX6_undo 29 = .ok (.ireturn, 1) := dk_172 (dk_at dksX6_undo_1 5 rfl rfl)
theorem dX6_undo_30 : decode cX6_undo 30 = .ok (.aload_n 0, 1) := dk_42 (dk_at dksX6_undo_1 6 rfl rfl)
theorem dX6_undo_31 : decode cX6_undo 31 = .ok (.getfield 20, 3) := dk_180 0 20 (dk_at dksX6_undo_1 7 rfl rfl)
theorem dX6_undo_34 : decode cX6_undo 34 = .ok (.sipush 153, 3) := dk_17 0 153 (dk_at dksX6_undo_1 10 rfl rfl)
theorem dX6_undo_37 : decode cX6_undo 37 = .ok (.iaload, 1) := dk_46 (dk_at dksX6_undo_1 13 rfl rfl)
theorem dX6_undo_38 : decode cX6_undo 38 = .ok (.iconst 1, 1) := dk_4 (dk_at dksX6_undo_1 14 rfl rfl)
theorem dX6_undo_39 : decode cX6_undo 39 = .ok (.isub, 1) := dk_100 (dk_at dksX6_undo_1 15 rfl rfl)
theorem dX6_undo_40 : decode cX6_undo 40 = .ok (.istore_n 1, 1) := dk_60 (dk_at dksX6_undo_1 16 rfl rfl)
theorem dX6_undo_41 : decode cX6_undo 41 = .ok (.iconst 0, 1) := dk_3 (dk_at dksX6_undo_1 17 rfl rfl)
theorem dX6_undo_42 : decode cX6_undo 42 = .ok (.istore_n 2, 1) := dk_61 (dk_at dksX6_undo_1 18 rfl rfl)
theorem dX6_undo_43 : decode cX6_undo 43 = .ok (.iload_n 2, 1) := dk_28 (dk_at dksX6_undo_1 19 rfl rfl)
theorem dX6_undo_44 : decode cX6_undo 44 = .ok (.sipush 155, 3) := dk_17 0 155 (dk_at dksX6_undo_1 20 rfl rfl)
theorem dX6_undo_47 : decode cX6_undo 47 = .ok (.if_icmp .ge 27, 3) := dk_162 0 27 (dk_at dksX6_undo_2 0 rfl rfl)
theorem dX6_undo_50 : decode cX6_undo 50 = .ok (.aload_n 0, 1) := dk_42 (dk_at dksX6_undo_2 3 rfl rfl)
theorem dX6_undo_51 : decode cX6_undo 51 = .ok (.getfield 20, 3) := dk_180 0 20 (dk_at dksX6_undo_2 4 rfl rfl)
theorem dX6_undo_54 : decode cX6_undo 54 = .ok (.iload_n 2, 1) := dk_28 (dk_at dksX6_undo_2 7 rfl rfl)
theorem dX6_undo_55 : decode cX6_undo 55 = .ok (.aload_n 0, 1) := dk_42 (dk_at dksX6_undo_2 8 rfl rfl)
theorem dX6_undo_56 : decode cX6_undo 56 = .ok (.getfield 29, 3) := dk_180 0 29 (dk_at dksX6_undo_2 9 rfl rfl)
theorem dX6_undo_59 : decode cX6_undo 59 = .ok (.sipush 155, 3) := dk_17 0 155 (dk_at dksX6_undo_2 12 rfl rfl)
theorem dX6_undo_62 : decode cX6_undo 62 = .ok (.iload_n 1, 1) := dk_27 (dk_at dksX6_undo_2 15 rfl rfl)
theorem dX6_undo_63 : decode cX6_undo 63 = .ok (.imul, 1) := dk_104 (dk_at dksX6_undo_2 16 rfl rfl)
theorem dX6_undo_64 : decode cX6_undo 64 = .ok (.iload_n 2, 1) := dk_28 (dk_at dksX6_undo_2 17 rfl rfl)
theorem dX6_undo_65 : decode cX6_undo 65 = .ok (.iadd, 1) := dk_96 (dk_at dksX6_undo_2 18 rfl rfl)
theorem dX6_undo_66 : decode cX6_undo 66 = .ok (.iaload, 1) := dk_46 (dk_at dksX6_undo_2 19 rfl rfl)
theorem dX6_undo_67 : decode cX6_undo 67 = .ok (.iastore, 1) := dk_79 (dk_at dksX6_undo_2 20 rfl rfl)
theorem dX6_undo_68 : decode cX6_undo 68 = .ok (.iinc 2 1, 3) := dk_132 2 1 (dk_at dksX6_undo_2 21 rfl rfl)
theorem dX6_undo_71 : decode cX6_undo 71 = .ok (.goto (-28), 3) := dk_167 255 228 (dk_at dksX6_undo_3 0 rfl rfl)
theorem dX6_undo_74 : decode cX6_undo 74 = .ok (.iload_n 1, 1) := dk_27 (dk_at dksX6_undo_3 3 rfl rfl)
theorem dX6_undo_75 : decode cX6_undo 75 = .ok (.ireturn, 1) := dk_172 (dk_at dksX6_undo_3 4 rfl rfl)
abbrev cX6_isOver : ByteArray := prog_14_method_35_code
def yX6_isOver : MethodName := ⟨RX6, "isOver", "()Z"⟩
def dkwX6_isOver_0 : List UInt8 := [42, 3, 181, 0, 73, 42, 182, 0, 170, 172]
abbrev dktX6_isOver_0 : List UInt8 := dkwX6_isOver_0 ++ []
theorem dksX6_isOver_0 : cX6_isOver.data.toList.drop 0 = dktX6_isOver_0 := by decide +kernel
theorem dX6_isOver_0 : decode cX6_isOver 0 = .ok (.aload_n 0, 1) := dk_42 (dk_at dksX6_isOver_0 0 rfl rfl)
theorem dX6_isOver_1 : decode cX6_isOver 1 = .ok (.iconst 0, 1) := dk_3 (dk_at dksX6_isOver_0 1 rfl rfl)
theorem dX6_isOver_2 : decode cX6_isOver 2 = .ok (.putfield 73, 3) := dk_181 0 73 (dk_at dksX6_isOver_0 2 rfl rfl)
theorem dX6_isOver_5 : decode cX6_isOver 5 = .ok (.aload_n 0, 1) := dk_42 (dk_at dksX6_isOver_0 5 rfl rfl)
theorem dX6_isOver_6 : decode cX6_isOver 6 = .ok (.invokevirtual 170, 3) := dk_182 0 170 (dk_at dksX6_isOver_0 6 rfl rfl)
theorem dX6_isOver_9 : decode cX6_isOver 9 = .ok (.ireturn, 1) := dk_172 (dk_at dksX6_isOver_0 9 rfl rfl)
abbrev cX6_cell : ByteArray := prog_14_method_36_code
def yX6_cell : MethodName := ⟨RX6, "cell", "(II)I"⟩
def dkwX6_cell_2 : List UInt8 := [180, 0, 20, 28, 42, 180, 0, 9, 104, 27, 96, 46, 167, 0, 4, 3, 172]
abbrev dktX6_cell_2 : List UInt8 := dkwX6_cell_2 ++ []
def dkwX6_cell_1 : List UInt8 := [184, 0, 80, 153, 0, 7, 3, 167, 0, 4, 4, 181, 0, 73, 42, 180, 0, 73, 154, 0, 19, 42]
abbrev dktX6_cell_1 : List UInt8 := dkwX6_cell_1 ++ dktX6_cell_2
def dkwX6_cell_0 : List UInt8 := [42, 27, 3, 42, 180, 0, 9, 4, 100, 184, 0, 80, 153, 0, 21, 28, 3, 42, 180, 0, 13, 4, 100]
abbrev dktX6_cell_0 : List UInt8 := dkwX6_cell_0 ++ dktX6_cell_1
theorem dksX6_cell_0 : cX6_cell.data.toList.drop 0 = dktX6_cell_0 := by decide +kernel
theorem dksX6_cell_1 : cX6_cell.data.toList.drop 23 = dktX6_cell_1 := dk_seg dksX6_cell_0 23 rfl rfl
theorem dksX6_cell_2 : cX6_cell.data.toList.drop 45 = dktX6_cell_2 := dk_seg dksX6_cell_1 22 rfl rfl
theorem dX6_cell_0 : decode cX6_cell 0 = .ok (.aload_n 0, 1) := dk_42 (dk_at dksX6_cell_0 0 rfl rfl)
theorem dX6_cell_1 : decode cX6_cell 1 = .ok (.iload_n 1, 1) := dk_27 (dk_at dksX6_cell_0 1 rfl rfl)
theorem dX6_cell_2 : decode cX6_cell 2 = .ok (.iconst 0, 1) := dk_3 (dk_at dksX6_cell_0 2 rfl rfl)
theorem dX6_cell_3 : decode cX6_cell 3 = .ok (.aload_n 0, 1) := dk_42 (dk_at dksX6_cell_0 3 rfl rfl)
theorem dX6_cell_4 : decode cX6_cell 4 = .ok (.getfield 9, 3) := dk_180 0 9 (dk_at dksX6_cell_0 4 rfl rfl)
theorem dX6_cell_7 : decode cX6_cell 7 = .ok (.iconst 1, 1) := dk_4 (dk_at dksX6_cell_0 7 rfl rfl)
theorem dX6_cell_8 : decode cX6_cell 8 = .ok (.isub, 1) := dk_100 (dk_at dksX6_cell_0 8 rfl rfl)
theorem dX6_cell_9 : decode cX6_cell 9 = .ok (.invokestatic 80, 3) := dk_184 0 80 (dk_at dksX6_cell_0 9 rfl rfl)
theorem dX6_cell_12 : decode cX6_cell 12 = .ok (.ifCond .eq 21, 3) := dk_153 0 21 (dk_at dksX6_cell_0 12 rfl rfl)
theorem dX6_cell_15 : decode cX6_cell 15 = .ok (.iload_n 2, 1) := dk_28 (dk_at dksX6_cell_0 15 rfl rfl)
theorem dX6_cell_16 : decode cX6_cell 16 = .ok (.iconst 0, 1) := dk_3 (dk_at dksX6_cell_0 16 rfl rfl)
theorem dX6_cell_17 : decode cX6_cell 17 = .ok (.aload_n 0, 1) := dk_42 (dk_at dksX6_cell_0 17 rfl rfl)
theorem dX6_cell_18 : decode cX6_cell 18 = .ok (.getfield 13, 3) := dk_180 0 13 (dk_at dksX6_cell_0 18 rfl rfl)
theorem dX6_cell_21 : decode cX6_cell 21 = .ok (.iconst 1, 1) := dk_4 (dk_at dksX6_cell_0 21 rfl rfl)
theorem dX6_cell_22 : decode cX6_cell 22 = .ok (.isub, 1) := dk_100 (dk_at dksX6_cell_0 22 rfl rfl)
theorem dX6_cell_23 : decode cX6_cell 23 = .ok (.invokestatic 80, 3) := dk_184 0 80 (dk_at dksX6_cell_1 0 rfl rfl)
theorem dX6_cell_26 : decode cX6_cell 26 = .ok (.ifCond .eq 7, 3) := dk_153 0 7 (dk_at dksX6_cell_1 3 rfl rfl)
theorem dX6_cell_29 : decode cX6_cell 29 = .ok (.iconst 0, 1) := dk_3 (dk_at dksX6_cell_1 6 rfl rfl)
theorem dX6_cell_30 : decode cX6_cell 30 = .ok (.goto 4, 3) := dk_167 0 4 (dk_at dksX6_cell_1 7 rfl rfl)
theorem dX6_cell_33 : decode cX6_cell 33 = .ok (.iconst 1, 1) := dk_4 (dk_at dksX6_cell_1 10 rfl rfl)
theorem dX6_cell_34 : decode cX6_cell 34 = .ok (.putfield 73, 3) := dk_181 0 73 (dk_at dksX6_cell_1 11 rfl rfl)
theorem dX6_cell_37 : decode cX6_cell 37 = .ok (.aload_n 0, 1) := dk_42 (dk_at dksX6_cell_1 14 rfl rfl)
theorem dX6_cell_38 : decode cX6_cell 38 = .ok (.getfield 73, 3) := dk_180 0 73 (dk_at dksX6_cell_1 15 rfl rfl)
theorem dX6_cell_41 : decode cX6_cell 41 = .ok (.ifCond .ne 19, 3) := dk_154 0 19 (dk_at dksX6_cell_1 18 rfl rfl)
theorem dX6_cell_44 : decode cX6_cell 44 = .ok (.aload_n 0, 1) := dk_42 (dk_at dksX6_cell_1 21 rfl rfl)
theorem dX6_cell_45 : decode cX6_cell 45 = .ok (.getfield 20, 3) := dk_180 0 20 (dk_at dksX6_cell_2 0 rfl rfl)
theorem dX6_cell_48 : decode cX6_cell 48 = .ok (.iload_n 2, 1) := dk_28 (dk_at dksX6_cell_2 3 rfl rfl)
theorem dX6_cell_49 : decode cX6_cell 49 = .ok (.aload_n 0, 1) := dk_42 (dk_at dksX6_cell_2 4 rfl rfl)
theorem dX6_cell_50 : decode cX6_cell 50 = .ok (.getfield 9, 3) := dk_180 0 9 (dk_at dksX6_cell_2 5 rfl rfl)
theorem dX6_cell_53 : decode cX6_cell 53 = .ok (.imul, 1) := dk_104 (dk_at dksX6_cell_2 8 rfl rfl)
theorem dX6_cell_54 : decode cX6_cell 54 = .ok (.iload_n 1, 1) := dk_27 (dk_at dksX6_cell_2 9 rfl rfl)
theorem dX6_cell_55 : decode cX6_cell 55 = .ok (.iadd, 1) := dk_96 (dk_at dksX6_cell_2 10 rfl rfl)
theorem dX6_cell_56 : decode cX6_cell 56 = .ok (.iaload, 1) := dk_46 (dk_at dksX6_cell_2 11 rfl rfl)
theorem dX6_cell_57 : decode cX6_cell 57 = .ok (.goto 4, 3) := dk_167 0 4 (dk_at dksX6_cell_2 12 rfl rfl)
theorem dX6_cell_60 : decode cX6_cell 60 = .ok (.iconst 0, 1) := dk_3 (dk_at dksX6_cell_2 15 rfl rfl)
theorem dX6_cell_61 : decode cX6_cell 61 = .ok (.ireturn, 1) := dk_172 (dk_at dksX6_cell_2 16 rfl rfl)
abbrev cX6_since : ByteArray := prog_14_method_37_code
def yX6_since : MethodName := ⟨RX6, "since", "(II)I"⟩
def dkwX6_since_2 : List UInt8 := [167, 0, 5, 16, 98, 27, 96, 46, 167, 0, 4, 3, 172]
abbrev dktX6_since_2 : List UInt8 := dkwX6_since_2 ++ []
def dkwX6_since_1 : List UInt8 := [167, 0, 4, 3, 181, 0, 73, 42, 180, 0, 73, 154, 0, 24, 42, 180, 0, 20, 28, 154, 0, 8, 16, 49]
abbrev dktX6_since_1 : List UInt8 := dkwX6_since_1 ++ dktX6_since_2
def dkwX6_since_0 : List UInt8 := [42, 42, 27, 182, 0, 150, 154, 0, 7, 4, 167, 0, 17, 28, 3, 4, 184, 0, 80, 154, 0, 7, 5]
abbrev dktX6_since_0 : List UInt8 := dkwX6_since_0 ++ dktX6_since_1
theorem dksX6_since_0 : cX6_since.data.toList.drop 0 = dktX6_since_0 := by decide +kernel
theorem dksX6_since_1 : cX6_since.data.toList.drop 23 = dktX6_since_1 := dk_seg dksX6_since_0 23 rfl rfl
theorem dksX6_since_2 : cX6_since.data.toList.drop 47 = dktX6_since_2 := dk_seg dksX6_since_1 24 rfl rfl
theorem dX6_since_0 : decode cX6_since 0 = .ok (.aload_n 0, 1) := dk_42 (dk_at dksX6_since_0 0 rfl rfl)
theorem dX6_since_1 : decode cX6_since 1 = .ok (.aload_n 0, 1) := dk_42 (dk_at dksX6_since_0 1 rfl rfl)
theorem dX6_since_2 : decode cX6_since 2 = .ok (.iload_n 1, 1) := dk_27 (dk_at dksX6_since_0 2 rfl rfl)
theorem dX6_since_3 : decode cX6_since 3 = .ok (.invokevirtual 150, 3) := dk_182 0 150 (dk_at dksX6_since_0 3 rfl rfl)
theorem dX6_since_6 : decode cX6_since 6 = .ok (.ifCond .ne 7, 3) := dk_154 0 7 (dk_at dksX6_since_0 6 rfl rfl)
theorem dX6_since_9 : decode cX6_since 9 = .ok (.iconst 1, 1) := dk_4 (dk_at dksX6_since_0 9 rfl rfl)
theorem dX6_since_10 : decode cX6_since 10 = .ok (.goto 17, 3) := dk_167 0 17 (dk_at dksX6_since_0 10 rfl rfl)
theorem dX6_since_13 : decode cX6_since 13 = .ok (.iload_n 2, 1) := dk_28 (dk_at dksX6_since_0 13 rfl rfl)
theorem dX6_since_14 : decode cX6_since 14 = .ok (.iconst 0, 1) := dk_3 (dk_at dksX6_since_0 14 rfl rfl)
theorem dX6_since_15 : decode cX6_since 15 = .ok (.iconst 1, 1) := dk_4 (dk_at dksX6_since_0 15 rfl rfl)
theorem dX6_since_16 : decode cX6_since 16 = .ok (.invokestatic 80, 3) := dk_184 0 80 (dk_at dksX6_since_0 16 rfl rfl)
theorem dX6_since_19 : decode cX6_since 19 = .ok (.ifCond .ne 7, 3) := dk_154 0 7 (dk_at dksX6_since_0 19 rfl rfl)
theorem dX6_since_22 : decode cX6_since 22 = .ok (.iconst 2, 1) := dk_5 (dk_at dksX6_since_0 22 rfl rfl)
theorem dX6_since_23 : decode cX6_since 23 = .ok (.goto 4, 3) := dk_167 0 4 (dk_at dksX6_since_1 0 rfl rfl)
theorem dX6_since_26 : decode cX6_since 26 = .ok (.iconst 0, 1) := dk_3 (dk_at dksX6_since_1 3 rfl rfl)
theorem dX6_since_27 : decode cX6_since 27 = .ok (.putfield 73, 3) := dk_181 0 73 (dk_at dksX6_since_1 4 rfl rfl)
theorem dX6_since_30 : decode cX6_since 30 = .ok (.aload_n 0, 1) := dk_42 (dk_at dksX6_since_1 7 rfl rfl)
theorem dX6_since_31 : decode cX6_since 31 = .ok (.getfield 73, 3) := dk_180 0 73 (dk_at dksX6_since_1 8 rfl rfl)
theorem dX6_since_34 : decode cX6_since 34 = .ok (.ifCond .ne 24, 3) := dk_154 0 24 (dk_at dksX6_since_1 11 rfl rfl)
theorem dX6_since_37 : decode cX6_since 37 = .ok (.aload_n 0, 1) := dk_42 (dk_at dksX6_since_1 14 rfl rfl)
theorem dX6_since_38 : decode cX6_since 38 = .ok (.getfield 20, 3) := dk_180 0 20 (dk_at dksX6_since_1 15 rfl rfl)
theorem dX6_since_41 : decode cX6_since 41 = .ok (.iload_n 2, 1) := dk_28 (dk_at dksX6_since_1 18 rfl rfl)
theorem dX6_since_42 : decode cX6_since 42 = .ok (.ifCond .ne 8, 3) := dk_154 0 8 (dk_at dksX6_since_1 19 rfl rfl)
theorem dX6_since_45 : decode cX6_since 45 = .ok (.bipush 49, 2) := dk_16 49 (dk_at dksX6_since_1 22 rfl rfl)
theorem dX6_since_47 : decode cX6_since 47 = .ok (.goto 5, 3) := dk_167 0 5 (dk_at dksX6_since_2 0 rfl rfl)
theorem dX6_since_50 : decode cX6_since 50 = .ok (.bipush 98, 2) := dk_16 98 (dk_at dksX6_since_2 3 rfl rfl)
theorem dX6_since_52 : decode cX6_since 52 = .ok (.iload_n 1, 1) := dk_27 (dk_at dksX6_since_2 5 rfl rfl)
theorem dX6_since_53 : decode cX6_since 53 = .ok (.iadd, 1) := dk_96 (dk_at dksX6_since_2 6 rfl rfl)
theorem dX6_since_54 : decode cX6_since 54 = .ok (.iaload, 1) := dk_46 (dk_at dksX6_since_2 7 rfl rfl)
theorem dX6_since_55 : decode cX6_since 55 = .ok (.goto 4, 3) := dk_167 0 4 (dk_at dksX6_since_2 8 rfl rfl)
theorem dX6_since_58 : decode cX6_since 58 = .ok (.iconst 0, 1) := dk_3 (dk_at dksX6_since_2 11 rfl rfl)
theorem dX6_since_59 : decode cX6_since 59 = .ok (.ireturn, 1) := dk_172 (dk_at dksX6_since_2 12 rfl rfl)
abbrev cX6_count : ByteArray := prog_14_method_38_code
def yX6_count : MethodName := ⟨RX6, "count", "(I)I"⟩
def dkwX6_count_4 : List UInt8 := [42, 8, 182, 0, 84, 172, 42, 180, 0, 20, 17, 0, 151, 46, 172, 42, 180, 0, 20, 17, 0, 152, 46, 172]
abbrev dktX6_count_4 : List UInt8 := dkwX6_count_4 ++ []
def dkwX6_count_3 : List UInt8 := [42, 180, 0, 20, 17, 0, 153, 46, 172, 42, 180, 0, 9, 172, 42, 180, 0, 13, 172, 42, 182, 0, 108, 172]
abbrev dktX6_count_3 : List UInt8 := dkwX6_count_3 ++ dktX6_count_4
def dkwX6_count_2 : List UInt8 := [170, 0, 0, 0, 0, 77, 0, 0, 0, 0, 0, 0, 0, 5, 0, 0, 0, 38, 0, 0, 0, 47, 0, 0, 0, 52, 0, 0, 0, 57, 0, 0, 0, 62, 0, 0, 0, 68]
abbrev dktX6_count_2 : List UInt8 := dkwX6_count_2 ++ dktX6_count_3
def dkwX6_count_1 : List UInt8 := [160, 0, 5, 3, 172, 27]
abbrev dktX6_count_1 : List UInt8 := dkwX6_count_1 ++ dktX6_count_2
def dkwX6_count_0 : List UInt8 := [42, 27, 3, 16, 6, 184, 0, 80, 153, 0, 7, 3, 167, 0, 4, 4, 181, 0, 73, 42, 180, 0, 73, 4]
abbrev dktX6_count_0 : List UInt8 := dkwX6_count_0 ++ dktX6_count_1
theorem dksX6_count_0 : cX6_count.data.toList.drop 0 = dktX6_count_0 := by decide +kernel
theorem dksX6_count_1 : cX6_count.data.toList.drop 24 = dktX6_count_1 := dk_seg dksX6_count_0 24 rfl rfl
theorem dksX6_count_2 : cX6_count.data.toList.drop 30 = dktX6_count_2 := dk_seg dksX6_count_1 6 rfl rfl
theorem dksX6_count_3 : cX6_count.data.toList.drop 68 = dktX6_count_3 := dk_seg dksX6_count_2 38 rfl rfl
theorem dksX6_count_4 : cX6_count.data.toList.drop 92 = dktX6_count_4 := dk_seg dksX6_count_3 24 rfl rfl
theorem dX6_count_0 : decode cX6_count 0 = .ok (.aload_n 0, 1) := dk_42 (dk_at dksX6_count_0 0 rfl rfl)
theorem dX6_count_1 : decode cX6_count 1 = .ok (.iload_n 1, 1) := dk_27 (dk_at dksX6_count_0 1 rfl rfl)
theorem dX6_count_2 : decode cX6_count 2 = .ok (.iconst 0, 1) := dk_3 (dk_at dksX6_count_0 2 rfl rfl)
theorem dX6_count_3 : decode cX6_count 3 = .ok (.bipush 6, 2) := dk_16 6 (dk_at dksX6_count_0 3 rfl rfl)
theorem dX6_count_5 : decode cX6_count 5 = .ok (.invokestatic 80, 3) := dk_184 0 80 (dk_at dksX6_count_0 5 rfl rfl)
theorem dX6_count_8 : decode cX6_count 8 = .ok (.ifCond .eq 7, 3) := dk_153 0 7 (dk_at dksX6_count_0 8 rfl rfl)
theorem dX6_count_11 : decode cX6_count 11 = .ok (.iconst 0, 1) := dk_3 (dk_at dksX6_count_0 11 rfl rfl)
theorem dX6_count_12 : decode cX6_count 12 = .ok (.goto 4, 3) := dk_167 0 4 (dk_at dksX6_count_0 12 rfl rfl)
theorem dX6_count_15 : decode cX6_count 15 = .ok (.iconst 1, 1) := dk_4 (dk_at dksX6_count_0 15 rfl rfl)
theorem dX6_count_16 : decode cX6_count 16 = .ok (.putfield 73, 3) := dk_181 0 73 (dk_at dksX6_count_0 16 rfl rfl)
theorem dX6_count_19 : decode cX6_count 19 = .ok (.aload_n 0, 1) := dk_42 (dk_at dksX6_count_0 19 rfl rfl)
theorem dX6_count_20 : decode cX6_count 20 = .ok (.getfield 73, 3) := dk_180 0 73 (dk_at dksX6_count_0 20 rfl rfl)
theorem dX6_count_23 : decode cX6_count 23 = .ok (.iconst 1, 1) := dk_4 (dk_at dksX6_count_0 23 rfl rfl)
theorem dX6_count_24 : decode cX6_count 24 = .ok (.if_icmp .ne 5, 3) := dk_160 0 5 (dk_at dksX6_count_1 0 rfl rfl)
theorem dX6_count_27 : decode cX6_count 27 = .ok (.iconst 0, 1) := dk_3 (dk_at dksX6_count_1 3 rfl rfl)
theorem dX6_count_28 : decode cX6_count 28 = .ok (.ireturn, 1) := dk_172 (dk_at dksX6_count_1 4 rfl rfl)
theorem dX6_count_29 : decode cX6_count 29 = .ok (.iload_n 1, 1) := dk_27 (dk_at dksX6_count_1 5 rfl rfl)
theorem dX6_count_30 : decode cX6_count 30 = .ok (.tableswitch 77 0 5 #[38, 47, 52, 57, 62, 68], 38) := by decide +kernel
theorem dX6_count_68 : decode cX6_count 68 = .ok (.aload_n 0, 1) := dk_42 (dk_at dksX6_count_3 0 rfl rfl)
theorem dX6_count_69 : decode cX6_count 69 = .ok (.getfield 20, 3) := dk_180 0 20 (dk_at dksX6_count_3 1 rfl rfl)
theorem dX6_count_72 : decode cX6_count 72 = .ok (.sipush 153, 3) := dk_17 0 153 (dk_at dksX6_count_3 4 rfl rfl)
theorem dX6_count_75 : decode cX6_count 75 = .ok (.iaload, 1) := dk_46 (dk_at dksX6_count_3 7 rfl rfl)
theorem dX6_count_76 : decode cX6_count 76 = .ok (.ireturn, 1) := dk_172 (dk_at dksX6_count_3 8 rfl rfl)
theorem dX6_count_77 : decode cX6_count 77 = .ok (.aload_n 0, 1) := dk_42 (dk_at dksX6_count_3 9 rfl rfl)
theorem dX6_count_78 : decode cX6_count 78 = .ok (.getfield 9, 3) := dk_180 0 9 (dk_at dksX6_count_3 10 rfl rfl)
theorem dX6_count_81 : decode cX6_count 81 = .ok (.ireturn, 1) := dk_172 (dk_at dksX6_count_3 13 rfl rfl)
theorem dX6_count_82 : decode cX6_count 82 = .ok (.aload_n 0, 1) := dk_42 (dk_at dksX6_count_3 14 rfl rfl)
theorem dX6_count_83 : decode cX6_count 83 = .ok (.getfield 13, 3) := dk_180 0 13 (dk_at dksX6_count_3 15 rfl rfl)
theorem dX6_count_86 : decode cX6_count 86 = .ok (.ireturn, 1) := dk_172 (dk_at dksX6_count_3 18 rfl rfl)
theorem dX6_count_87 : decode cX6_count 87 = .ok (.aload_n 0, 1) := dk_42 (dk_at dksX6_count_3 19 rfl rfl)
theorem dX6_count_88 : decode cX6_count 88 = .ok (.invokevirtual 108, 3) := dk_182 0 108 (dk_at dksX6_count_3 20 rfl rfl)
theorem dX6_count_91 : decode cX6_count 91 = .ok (.ireturn, 1) := dk_172 (dk_at dksX6_count_3 23 rfl rfl)
theorem dX6_count_92 : decode cX6_count 92 = .ok (.aload_n 0, 1) := dk_42 (dk_at dksX6_count_4 0 rfl rfl)
theorem dX6_count_93 : decode cX6_count 93 = .ok (.iconst 5, 1) := dk_8 (dk_at dksX6_count_4 1 rfl rfl)
theorem dX6_count_94 : decode cX6_count 94 = .ok (.invokevirtual 84, 3) := dk_182 0 84 (dk_at dksX6_count_4 2 rfl rfl)
theorem dX6_count_97 : decode cX6_count 97 = .ok (.ireturn, 1) := dk_172 (dk_at dksX6_count_4 5 rfl rfl)
theorem dX6_count_98 : decode cX6_count 98 = .ok (.aload_n 0, 1) := dk_42 (dk_at dksX6_count_4 6 rfl rfl)
theorem dX6_count_99 : decode cX6_count 99 = .ok (.getfield 20, 3) := dk_180 0 20 (dk_at dksX6_count_4 7 rfl rfl)
theorem dX6_count_102 : decode cX6_count 102 = .ok (.sipush 151, 3) := dk_17 0 151 (dk_at dksX6_count_4 10 rfl rfl)
theorem dX6_count_105 : decode cX6_count 105 = .ok (.iaload, 1) := dk_46 (dk_at dksX6_count_4 13 rfl rfl)
theorem dX6_count_106 : decode cX6_count 106 = .ok (.ireturn, 1) := dk_172 (dk_at dksX6_count_4 14 rfl rfl)
theorem dX6_count_107 : decode cX6_count 107 = .ok (.aload_n 0, 1) := dk_42 (dk_at dksX6_count_4 15 rfl rfl)
theorem dX6_count_108 : decode cX6_count 108 = .ok (.getfield 20, 3) := dk_180 0 20 (dk_at dksX6_count_4 16 rfl rfl)
theorem dX6_count_111 : decode cX6_count 111 = .ok (.sipush 152, 3) := dk_17 0 152 (dk_at dksX6_count_4 19 rfl rfl)
theorem dX6_count_114 : decode cX6_count 114 = .ok (.iaload, 1) := dk_46 (dk_at dksX6_count_4 22 rfl rfl)
theorem dX6_count_115 : decode cX6_count 115 = .ok (.ireturn, 1) := dk_172 (dk_at dksX6_count_4 23 rfl rfl)
abbrev cX6_player : ByteArray := prog_14_method_40_code
def yX6_player : MethodName := ⟨RX6, "player", "(II)I"⟩
def dkwX6_player_5 : List UInt8 := [27, 96, 46, 172, 42, 27, 28, 16, 7, 160, 0, 7, 4, 167, 0, 4, 3, 182, 0, 181, 172]
abbrev dktX6_player_5 : List UInt8 := dkwX6_player_5 ++ []
def dkwX6_player_4 : List UInt8 := [180, 0, 20, 17, 0, 147, 27, 96, 46, 172, 42, 180, 0, 16, 27, 46, 172, 42, 180, 0, 20, 17, 0, 149]
abbrev dktX6_player_4 : List UInt8 := dkwX6_player_4 ++ dktX6_player_5
def dkwX6_player_3 : List UInt8 := [42, 27, 182, 0, 138, 172, 42, 4, 27, 96, 182, 0, 84, 172, 42, 6, 27, 96, 182, 0, 84, 172, 42]
abbrev dktX6_player_3 : List UInt8 := dkwX6_player_3 ++ dktX6_player_4
def dkwX6_player_2 : List UInt8 := [170, 0, 0, 0, 0, 89, 0, 0, 0, 0, 0, 0, 0, 5, 0, 0, 0, 38, 0, 0, 0, 44, 0, 0, 0, 52, 0, 0, 0, 60, 0, 0, 0, 71, 0, 0, 0, 78]
abbrev dktX6_player_2 : List UInt8 := dkwX6_player_2 ++ dktX6_player_3
def dkwX6_player_1 : List UInt8 := [5, 167, 0, 4, 3, 181, 0, 73, 42, 180, 0, 73, 158, 0, 5, 3, 172, 28]
abbrev dktX6_player_1 : List UInt8 := dkwX6_player_1 ++ dktX6_player_2
def dkwX6_player_0 : List UInt8 := [42, 27, 3, 4, 184, 0, 80, 154, 0, 7, 4, 167, 0, 18, 28, 3, 16, 7, 184, 0, 80, 154, 0, 7]
abbrev dktX6_player_0 : List UInt8 := dkwX6_player_0 ++ dktX6_player_1
theorem dksX6_player_0 : cX6_player.data.toList.drop 0 = dktX6_player_0 := by decide +kernel
theorem dksX6_player_1 : cX6_player.data.toList.drop 24 = dktX6_player_1 := dk_seg dksX6_player_0 24 rfl rfl
theorem dksX6_player_2 : cX6_player.data.toList.drop 42 = dktX6_player_2 := dk_seg dksX6_player_1 18 rfl rfl
theorem dksX6_player_3 : cX6_player.data.toList.drop 80 = dktX6_player_3 := dk_seg dksX6_player_2 38 rfl rfl
theorem dksX6_player_4 : cX6_player.data.toList.drop 103 = dktX6_player_4 := dk_seg dksX6_player_3 23 rfl rfl
theorem dksX6_player_5 : cX6_player.data.toList.drop 127 = dktX6_player_5 := dk_seg dksX6_player_4 24 rfl rfl
theorem dX6_player_0 : decode cX6_player 0 = .ok (.aload_n 0, 1) := dk_42 (dk_at dksX6_player_0 0 rfl rfl)
theorem dX6_player_1 : decode cX6_player 1 = .ok (.iload_n 1, 1) := dk_27 (dk_at dksX6_player_0 1 rfl rfl)
theorem dX6_player_2 : decode cX6_player 2 = .ok (.iconst 0, 1) := dk_3 (dk_at dksX6_player_0 2 rfl rfl)
theorem dX6_player_3 : decode cX6_player 3 = .ok (.iconst 1, 1) := dk_4 (dk_at dksX6_player_0 3 rfl rfl)
theorem dX6_player_4 : decode cX6_player 4 = .ok (.invokestatic 80, 3) := dk_184 0 80 (dk_at dksX6_player_0 4 rfl rfl)
theorem dX6_player_7 : decode cX6_player 7 = .ok (.ifCond .ne 7, 3) := dk_154 0 7 (dk_at dksX6_player_0 7 rfl rfl)
theorem dX6_player_10 : decode cX6_player 10 = .ok (.iconst 1, 1) := dk_4 (dk_at dksX6_player_0 10 rfl rfl)
theorem dX6_player_11 : decode cX6_player 11 = .ok (.goto 18, 3) := dk_167 0 18 (dk_at dksX6_player_0 11 rfl rfl)
theorem dX6_player_14 : decode cX6_player 14 = .ok (.iload_n 2, 1) := dk_28 (dk_at dksX6_player_0 14 rfl rfl)
theorem dX6_player_15 : decode cX6_player 15 = .ok (.iconst 0, 1) := dk_3 (dk_at dksX6_player_0 15 rfl rfl)
theorem dX6_player_16 : decode cX6_player 16 = .ok (.bipush 7, 2) := dk_16 7 (dk_at dksX6_player_0 16 rfl rfl)
theorem dX6_player_18 : decode cX6_player 18 = .ok (.invokestatic 80, 3) := dk_184 0 80 (dk_at dksX6_player_0 18 rfl rfl)
theorem dX6_player_21 : decode cX6_player 21 = .ok (.ifCond .ne 7, 3) := dk_154 0 7 (dk_at dksX6_player_0 21 rfl rfl)
theorem dX6_player_24 : decode cX6_player 24 = .ok (.iconst 2, 1) := dk_5 (dk_at dksX6_player_1 0 rfl rfl)
theorem dX6_player_25 : decode cX6_player 25 = .ok (.goto 4, 3) := dk_167 0 4 (dk_at dksX6_player_1 1 rfl rfl)
theorem dX6_player_28 : decode cX6_player 28 = .ok (.iconst 0, 1) := dk_3 (dk_at dksX6_player_1 4 rfl rfl)
theorem dX6_player_29 : decode cX6_player 29 = .ok (.putfield 73, 3) := dk_181 0 73 (dk_at dksX6_player_1 5 rfl rfl)
theorem dX6_player_32 : decode cX6_player 32 = .ok (.aload_n 0, 1) := dk_42 (dk_at dksX6_player_1 8 rfl rfl)
theorem dX6_player_33 : decode cX6_player 33 = .ok (.getfield 73, 3) := dk_180 0 73 (dk_at dksX6_player_1 9 rfl rfl)
theorem dX6_player_36 : decode cX6_player 36 = .ok (.ifCond .le 5, 3) := dk_158 0 5 (dk_at dksX6_player_1 12 rfl rfl)
theorem dX6_player_39 : decode cX6_player 39 = .ok (.iconst 0, 1) := dk_3 (dk_at dksX6_player_1 15 rfl rfl)
theorem dX6_player_40 : decode cX6_player 40 = .ok (.ireturn, 1) := dk_172 (dk_at dksX6_player_1 16 rfl rfl)
theorem dX6_player_41 : decode cX6_player 41 = .ok (.iload_n 2, 1) := dk_28 (dk_at dksX6_player_1 17 rfl rfl)
theorem dX6_player_42 : decode cX6_player 42 = .ok (.tableswitch 89 0 5 #[38, 44, 52, 60, 71, 78], 38) := by decide +kernel
theorem dX6_player_80 : decode cX6_player 80 = .ok (.aload_n 0, 1) := dk_42 (dk_at dksX6_player_3 0 rfl rfl)
theorem dX6_player_81 : decode cX6_player 81 = .ok (.iload_n 1, 1) := dk_27 (dk_at dksX6_player_3 1 rfl rfl)
theorem dX6_player_82 : decode cX6_player 82 = .ok (.invokevirtual 138, 3) := dk_182 0 138 (dk_at dksX6_player_3 2 rfl rfl)
theorem dX6_player_85 : decode cX6_player 85 = .ok (.ireturn, 1) := dk_172 (dk_at dksX6_player_3 5 rfl rfl)
theorem dX6_player_86 : decode cX6_player 86 = .ok (.aload_n 0, 1) := dk_42 (dk_at dksX6_player_3 6 rfl rfl)
theorem dX6_player_87 : decode cX6_player 87 = .ok (.iconst 1, 1) := dk_4 (dk_at dksX6_player_3 7 rfl rfl)
theorem dX6_player_88 : decode cX6_player 88 = .ok (.iload_n 1, 1) := dk_27 (dk_at dksX6_player_3 8 rfl rfl)
theorem dX6_player_89 : decode cX6_player 89 = .ok (.iadd, 1) := dk_96 (dk_at dksX6_player_3 9 rfl rfl)
theorem dX6_player_90 : decode cX6_player 90 = .ok (.invokevirtual 84, 3) := dk_182 0 84 (dk_at dksX6_player_3 10 rfl rfl)
theorem dX6_player_93 : decode cX6_player 93 = .ok (.ireturn, 1) := dk_172 (dk_at dksX6_player_3 13 rfl rfl)
theorem dX6_player_94 : decode cX6_player 94 = .ok (.aload_n 0, 1) := dk_42 (dk_at dksX6_player_3 14 rfl rfl)
theorem dX6_player_95 : decode cX6_player 95 = .ok (.iconst 3, 1) := dk_6 (dk_at dksX6_player_3 15 rfl rfl)
theorem dX6_player_96 : decode cX6_player 96 = .ok (.iload_n 1, 1) := dk_27 (dk_at dksX6_player_3 16 rfl rfl)
theorem dX6_player_97 : decode cX6_player 97 = .ok (.iadd, 1) := dk_96 (dk_at dksX6_player_3 17 rfl rfl)
theorem dX6_player_98 : decode cX6_player 98 = .ok (.invokevirtual 84, 3) := dk_182 0 84 (dk_at dksX6_player_3 18 rfl rfl)
theorem dX6_player_101 : decode cX6_player 101 = .ok (.ireturn, 1) := dk_172 (dk_at dksX6_player_3 21 rfl rfl)
theorem dX6_player_102 : decode cX6_player 102 = .ok (.aload_n 0, 1) := dk_42 (dk_at dksX6_player_3 22 rfl rfl)
theorem dX6_player_103 : decode cX6_player 103 = .ok (.getfield 20, 3) := dk_180 0 20 (dk_at dksX6_player_4 0 rfl rfl)
theorem dX6_player_106 : decode cX6_player 106 = .ok (.sipush 147, 3) := dk_17 0 147 (dk_at dksX6_player_4 3 rfl rfl)
theorem dX6_player_109 : decode cX6_player 109 = .ok (.iload_n 1, 1) := dk_27 (dk_at dksX6_player_4 6 rfl rfl)
theorem dX6_player_110 : decode cX6_player 110 = .ok (.iadd, 1) := dk_96 (dk_at dksX6_player_4 7 rfl rfl)
theorem dX6_player_111 : decode cX6_player 111 = .ok (.iaload, 1) := dk_46 (dk_at dksX6_player_4 8 rfl rfl)
theorem dX6_player_112 : decode cX6_player 112 = .ok (.ireturn, 1) := dk_172 (dk_at dksX6_player_4 9 rfl rfl)
theorem dX6_player_113 : decode cX6_player 113 = .ok (.aload_n 0, 1) := dk_42 (dk_at dksX6_player_4 10 rfl rfl)
theorem dX6_player_114 : decode cX6_player 114 = .ok (.getfield 16, 3) := dk_180 0 16 (dk_at dksX6_player_4 11 rfl rfl)
theorem dX6_player_117 : decode cX6_player 117 = .ok (.iload_n 1, 1) := dk_27 (dk_at dksX6_player_4 14 rfl rfl)
theorem dX6_player_118 : decode cX6_player 118 = .ok (.iaload, 1) := dk_46 (dk_at dksX6_player_4 15 rfl rfl)
theorem dX6_player_119 : decode cX6_player 119 = .ok (.ireturn, 1) := dk_172 (dk_at dksX6_player_4 16 rfl rfl)
theorem dX6_player_120 : decode cX6_player 120 = .ok (.aload_n 0, 1) := dk_42 (dk_at dksX6_player_4 17 rfl rfl)
theorem dX6_player_121 : decode cX6_player 121 = .ok (.getfield 20, 3) := dk_180 0 20 (dk_at dksX6_player_4 18 rfl rfl)
theorem dX6_player_124 : decode cX6_player 124 = .ok (.sipush 149, 3) := dk_17 0 149 (dk_at dksX6_player_4 21 rfl rfl)
theorem dX6_player_127 : decode cX6_player 127 = .ok (.iload_n 1, 1) := dk_27 (dk_at dksX6_player_5 0 rfl rfl)
theorem dX6_player_128 : decode cX6_player 128 = .ok (.iadd, 1) := dk_96 (dk_at dksX6_player_5 1 rfl rfl)
theorem dX6_player_129 : decode cX6_player 129 = .ok (.iaload, 1) := dk_46 (dk_at dksX6_player_5 2 rfl rfl)
theorem dX6_player_130 : decode cX6_player 130 = .ok (.ireturn, 1) := dk_172 (dk_at dksX6_player_5 3 rfl rfl)
theorem dX6_player_131 : decode cX6_player 131 = .ok (.aload_n 0, 1) := dk_42 (dk_at dksX6_player_5 4 rfl rfl)
theorem dX6_player_132 : decode cX6_player 132 = .ok (.iload_n 1, 1) := dk_27 (dk_at dksX6_player_5 5 rfl rfl)
theorem dX6_player_133 : decode cX6_player 133 = .ok (.iload_n 2, 1) := dk_28 (dk_at dksX6_player_5 6 rfl rfl)
theorem dX6_player_134 : decode cX6_player 134 = .ok (.bipush 7, 2) := dk_16 7 (dk_at dksX6_player_5 7 rfl rfl)
theorem dX6_player_136 : decode cX6_player 136 = .ok (.if_icmp .ne 7, 3) := dk_160 0 7 (dk_at dksX6_player_5 9 rfl rfl)
theorem dX6_player_139 : decode cX6_player 139 = .ok (.iconst 1, 1) := dk_4 (dk_at dksX6_player_5 12 rfl rfl)
theorem dX6_player_140 : decode cX6_player 140 = .ok (.goto 4, 3) := dk_167 0 4 (dk_at dksX6_player_5 13 rfl rfl)
theorem dX6_player_143 : decode cX6_player 143 = .ok (.iconst 0, 1) := dk_3 (dk_at dksX6_player_5 16 rfl rfl)
theorem dX6_player_144 : decode cX6_player 144 = .ok (.invokevirtual 181, 3) := dk_182 0 181 (dk_at dksX6_player_5 17 rfl rfl)
theorem dX6_player_147 : decode cX6_player 147 = .ok (.ireturn, 1) := dk_172 (dk_at dksX6_player_5 20 rfl rfl)
abbrev cX6_regions : ByteArray := prog_14_method_39_code
def yX6_regions : MethodName := ⟨RX6, "regions", "(IZ)I"⟩
def dkwX6_regions_3 : List UInt8 := [167, 0, 5, 21, 5, 172]
abbrev dktX6_regions_3 : List UInt8 := dkwX6_regions_3 ++ []
def dkwX6_regions_2 : List UInt8 := [164, 0, 11, 22, 7, 184, 0, 125, 167, 0, 5, 21, 6, 54, 6, 167, 255, 205, 28, 153, 0, 8, 21, 6]
abbrev dktX6_regions_2 : List UInt8 := dkwX6_regions_2 ++ dktX6_regions_3
def dkwX6_regions_1 : List UInt8 := [182, 0, 121, 55, 7, 33, 22, 7, 20, 0, 95, 131, 127, 66, 132, 5, 1, 22, 7, 184, 0, 125, 21, 6]
abbrev dktX6_regions_1 : List UInt8 := dkwX6_regions_1 ++ dktX6_regions_2
def dkwX6_regions_0 : List UInt8 := [42, 27, 182, 0, 111, 66, 3, 54, 5, 3, 54, 6, 33, 9, 148, 153, 0, 51, 42, 33, 33, 184, 0, 117]
abbrev dktX6_regions_0 : List UInt8 := dkwX6_regions_0 ++ dktX6_regions_1
theorem dksX6_regions_0 : cX6_regions.data.toList.drop 0 = dktX6_regions_0 := by decide +kernel
theorem dksX6_regions_1 : cX6_regions.data.toList.drop 24 = dktX6_regions_1 := dk_seg dksX6_regions_0 24 rfl rfl
theorem dksX6_regions_2 : cX6_regions.data.toList.drop 48 = dktX6_regions_2 := dk_seg dksX6_regions_1 24 rfl rfl
theorem dksX6_regions_3 : cX6_regions.data.toList.drop 72 = dktX6_regions_3 := dk_seg dksX6_regions_2 24 rfl rfl
theorem dX6_regions_0 : decode cX6_regions 0 = .ok (.aload_n 0, 1) := dk_42 (dk_at dksX6_regions_0 0 rfl rfl)
theorem dX6_regions_1 : decode cX6_regions 1 = .ok (.iload_n 1, 1) := dk_27 (dk_at dksX6_regions_0 1 rfl rfl)
theorem dX6_regions_2 : decode cX6_regions 2 = .ok (.invokevirtual 111, 3) := dk_182 0 111 (dk_at dksX6_regions_0 2 rfl rfl)
theorem dX6_regions_5 : decode cX6_regions 5 = .ok (.lstore_n 3, 1) := dk_66 (dk_at dksX6_regions_0 5 rfl rfl)
theorem dX6_regions_6 : decode cX6_regions 6 = .ok (.iconst 0, 1) := dk_3 (dk_at dksX6_regions_0 6 rfl rfl)
theorem dX6_regions_7 : decode cX6_regions 7 = .ok (.istore 5, 2) := dk_54 5 (dk_at dksX6_regions_0 7 rfl rfl)
theorem dX6_regions_9 : decode cX6_regions 9 = .ok (.iconst 0, 1) := dk_3 (dk_at dksX6_regions_0 9 rfl rfl)
theorem dX6_regions_10 : decode cX6_regions 10 = .ok (.istore 6, 2) := dk_54 6 (dk_at dksX6_regions_0 10 rfl rfl)
theorem dX6_regions_12 : decode cX6_regions 12 = .ok (.lload_n 3, 1) := dk_33 (dk_at dksX6_regions_0 12 rfl rfl)
theorem dX6_regions_13 : decode cX6_regions 13 = .ok (.lconst 0, 1) := dk_9 (dk_at dksX6_regions_0 13 rfl rfl)
theorem dX6_regions_14 : decode cX6_regions 14 = .ok (.lcmp, 1) := dk_148 (dk_at dksX6_regions_0 14 rfl rfl)
theorem dX6_regions_15 : decode cX6_regions 15 = .ok (.ifCond .eq 51, 3) := dk_153 0 51 (dk_at dksX6_regions_0 15 rfl rfl)
theorem dX6_regions_18 : decode cX6_regions 18 = .ok (.aload_n 0, 1) := dk_42 (dk_at dksX6_regions_0 18 rfl rfl)
theorem dX6_regions_19 : decode cX6_regions 19 = .ok (.lload_n 3, 1) := dk_33 (dk_at dksX6_regions_0 19 rfl rfl)
theorem dX6_regions_20 : decode cX6_regions 20 = .ok (.lload_n 3, 1) := dk_33 (dk_at dksX6_regions_0 20 rfl rfl)
theorem dX6_regions_21 : decode cX6_regions 21 = .ok (.invokestatic 117, 3) := dk_184 0 117 (dk_at dksX6_regions_0 21 rfl rfl)
theorem dX6_regions_24 : decode cX6_regions 24 = .ok (.invokevirtual 121, 3) := dk_182 0 121 (dk_at dksX6_regions_1 0 rfl rfl)
theorem dX6_regions_27 : decode cX6_regions 27 = .ok (.lstore 7, 2) := dk_55 7 (dk_at dksX6_regions_1 3 rfl rfl)
theorem dX6_regions_29 : decode cX6_regions 29 = .ok (.lload_n 3, 1) := dk_33 (dk_at dksX6_regions_1 5 rfl rfl)
theorem dX6_regions_30 : decode cX6_regions 30 = .ok (.lload 7, 2) := dk_22 7 (dk_at dksX6_regions_1 6 rfl rfl)
theorem dX6_regions_32 : decode cX6_regions 32 = .ok (.ldc2_w 95, 3) := dk_20 0 95 (dk_at dksX6_regions_1 8 rfl rfl)
theorem dX6_regions_35 : decode cX6_regions 35 = .ok (.lxor, 1) := dk_131 (dk_at dksX6_regions_1 11 rfl rfl)
theorem dX6_regions_36 : decode cX6_regions 36 = .ok (.land, 1) := dk_127 (dk_at dksX6_regions_1 12 rfl rfl)
theorem dX6_regions_37 : decode cX6_regions 37 = .ok (.lstore_n 3, 1) := dk_66 (dk_at dksX6_regions_1 13 rfl rfl)
theorem dX6_regions_38 : decode cX6_regions 38 = .ok (.iinc 5 1, 3) := dk_132 5 1 (dk_at dksX6_regions_1 14 rfl rfl)
theorem dX6_regions_41 : decode cX6_regions 41 = .ok (.lload 7, 2) := dk_22 7 (dk_at dksX6_regions_1 17 rfl rfl)
theorem dX6_regions_43 : decode cX6_regions 43 = .ok (.invokestatic 125, 3) := dk_184 0 125 (dk_at dksX6_regions_1 19 rfl rfl)
theorem dX6_regions_46 : decode cX6_regions 46 = .ok (.iload 6, 2) := dk_21 6 (dk_at dksX6_regions_1 22 rfl rfl)
theorem dX6_regions_48 : decode cX6_regions 48 = .ok (.if_icmp .le 11, 3) := dk_164 0 11 (dk_at dksX6_regions_2 0 rfl rfl)
theorem dX6_regions_51 : decode cX6_regions 51 = .ok (.lload 7, 2) := dk_22 7 (dk_at dksX6_regions_2 3 rfl rfl)
theorem dX6_regions_53 : decode cX6_regions 53 = .ok (.invokestatic 125, 3) := dk_184 0 125 (dk_at dksX6_regions_2 5 rfl rfl)
theorem dX6_regions_56 : decode cX6_regions 56 = .ok (.goto 5, 3) := dk_167 0 5 (dk_at dksX6_regions_2 8 rfl rfl)
theorem dX6_regions_59 : decode cX6_regions 59 = .ok (.iload 6, 2) := dk_21 6 (dk_at dksX6_regions_2 11 rfl rfl)
theorem dX6_regions_61 : decode cX6_regions 61 = .ok (.istore 6, 2) := dk_54 6 (dk_at dksX6_regions_2 13 rfl rfl)
theorem dX6_regions_63 : decode cX6_regions 63 = .ok (.goto (-51), 3) := dk_167 255 205 (dk_at dksX6_regions_2 15 rfl rfl)
theorem dX6_regions_66 : decode cX6_regions 66 = .ok (.iload_n 2, 1) := dk_28 (dk_at dksX6_regions_2 18 rfl rfl)
theorem dX6_regions_67 : decode cX6_regions 67 = .ok (.ifCond .eq 8, 3) := dk_153 0 8 (dk_at dksX6_regions_2 19 rfl rfl)
theorem dX6_regions_70 : decode cX6_regions 70 = .ok (.iload 6, 2) := dk_21 6 (dk_at dksX6_regions_2 22 rfl rfl)
theorem dX6_regions_72 : decode cX6_regions 72 = .ok (.goto 5, 3) := dk_167 0 5 (dk_at dksX6_regions_3 0 rfl rfl)
theorem dX6_regions_75 : decode cX6_regions 75 = .ok (.iload 5, 2) := dk_21 5 (dk_at dksX6_regions_3 3 rfl rfl)
theorem dX6_regions_77 : decode cX6_regions 77 = .ok (.ireturn, 1) := dk_172 (dk_at dksX6_regions_3 5 rfl rfl)
abbrev cX6_region : ByteArray := prog_14_method_42_code
def yX6_region : MethodName := ⟨RX6, "region", "(II)J"⟩
def dkwX6_region_2 : List UInt8 := [27, 182, 0, 111, 28, 182, 0, 121, 167, 0, 4, 9, 173]
abbrev dktX6_region_2 : List UInt8 := dkwX6_region_2 ++ []
def dkwX6_region_1 : List UInt8 := [28, 182, 0, 185, 154, 0, 7, 5, 167, 0, 4, 3, 181, 0, 73, 42, 180, 0, 73, 154, 0, 16, 42, 42]
abbrev dktX6_region_1 : List UInt8 := dkwX6_region_1 ++ dktX6_region_2
def dkwX6_region_0 : List UInt8 := [42, 27, 3, 4, 184, 0, 80, 153, 0, 11, 42, 28, 182, 0, 150, 154, 0, 7, 4, 167, 0, 17, 42, 27]
abbrev dktX6_region_0 : List UInt8 := dkwX6_region_0 ++ dktX6_region_1
theorem dksX6_region_0 : cX6_region.data.toList.drop 0 = dktX6_region_0 := by decide +kernel
theorem dksX6_region_1 : cX6_region.data.toList.drop 24 = dktX6_region_1 := dk_seg dksX6_region_0 24 rfl rfl
theorem dksX6_region_2 : cX6_region.data.toList.drop 48 = dktX6_region_2 := dk_seg dksX6_region_1 24 rfl rfl
theorem dX6_region_0 : decode cX6_region 0 = .ok (.aload_n 0, 1) := dk_42 (dk_at dksX6_region_0 0 rfl rfl)
theorem dX6_region_1 : decode cX6_region 1 = .ok (.iload_n 1, 1) := dk_27 (dk_at dksX6_region_0 1 rfl rfl)
theorem dX6_region_2 : decode cX6_region 2 = .ok (.iconst 0, 1) := dk_3 (dk_at dksX6_region_0 2 rfl rfl)
theorem dX6_region_3 : decode cX6_region 3 = .ok (.iconst 1, 1) := dk_4 (dk_at dksX6_region_0 3 rfl rfl)
theorem dX6_region_4 : decode cX6_region 4 = .ok (.invokestatic 80, 3) := dk_184 0 80 (dk_at dksX6_region_0 4 rfl rfl)
theorem dX6_region_7 : decode cX6_region 7 = .ok (.ifCond .eq 11, 3) := dk_153 0 11 (dk_at dksX6_region_0 7 rfl rfl)
theorem dX6_region_10 : decode cX6_region 10 = .ok (.aload_n 0, 1) := dk_42 (dk_at dksX6_region_0 10 rfl rfl)
theorem dX6_region_11 : decode cX6_region 11 = .ok (.iload_n 2, 1) := dk_28 (dk_at dksX6_region_0 11 rfl rfl)
theorem dX6_region_12 : decode cX6_region 12 = .ok (.invokevirtual 150, 3) := dk_182 0 150 (dk_at dksX6_region_0 12 rfl rfl)
theorem dX6_region_15 : decode cX6_region 15 = .ok (.ifCond .ne 7, 3) := dk_154 0 7 (dk_at dksX6_region_0 15 rfl rfl)
theorem dX6_region_18 : decode cX6_region 18 = .ok (.iconst 1, 1) := dk_4 (dk_at dksX6_region_0 18 rfl rfl)
theorem dX6_region_19 : decode cX6_region 19 = .ok (.goto 17, 3) := dk_167 0 17 (dk_at dksX6_region_0 19 rfl rfl)
theorem dX6_region_22 : decode cX6_region 22 = .ok (.aload_n 0, 1) := dk_42 (dk_at dksX6_region_0 22 rfl rfl)
theorem dX6_region_23 : decode cX6_region 23 = .ok (.iload_n 1, 1) := dk_27 (dk_at dksX6_region_0 23 rfl rfl)
theorem dX6_region_24 : decode cX6_region 24 = .ok (.iload_n 2, 1) := dk_28 (dk_at dksX6_region_1 0 rfl rfl)
theorem dX6_region_25 : decode cX6_region 25 = .ok (.invokevirtual 185, 3) := dk_182 0 185 (dk_at dksX6_region_1 1 rfl rfl)
theorem dX6_region_28 : decode cX6_region 28 = .ok (.ifCond .ne 7, 3) := dk_154 0 7 (dk_at dksX6_region_1 4 rfl rfl)
theorem dX6_region_31 : decode cX6_region 31 = .ok (.iconst 2, 1) := dk_5 (dk_at dksX6_region_1 7 rfl rfl)
theorem dX6_region_32 : decode cX6_region 32 = .ok (.goto 4, 3) := dk_167 0 4 (dk_at dksX6_region_1 8 rfl rfl)
theorem dX6_region_35 : decode cX6_region 35 = .ok (.iconst 0, 1) := dk_3 (dk_at dksX6_region_1 11 rfl rfl)
theorem dX6_region_36 : decode cX6_region 36 = .ok (.putfield 73, 3) := dk_181 0 73 (dk_at dksX6_region_1 12 rfl rfl)
theorem dX6_region_39 : decode cX6_region 39 = .ok (.aload_n 0, 1) := dk_42 (dk_at dksX6_region_1 15 rfl rfl)
theorem dX6_region_40 : decode cX6_region 40 = .ok (.getfield 73, 3) := dk_180 0 73 (dk_at dksX6_region_1 16 rfl rfl)
theorem dX6_region_43 : decode cX6_region 43 = .ok (.ifCond .ne 16, 3) := dk_154 0 16 (dk_at dksX6_region_1 19 rfl rfl)
theorem dX6_region_46 : decode cX6_region 46 = .ok (.aload_n 0, 1) := dk_42 (dk_at dksX6_region_1 22 rfl rfl)
theorem dX6_region_47 : decode cX6_region 47 = .ok (.aload_n 0, 1) := dk_42 (dk_at dksX6_region_1 23 rfl rfl)
theorem dX6_region_48 : decode cX6_region 48 = .ok (.iload_n 1, 1) := dk_27 (dk_at dksX6_region_2 0 rfl rfl)
theorem dX6_region_49 : decode cX6_region 49 = .ok (.invokevirtual 111, 3) := dk_182 0 111 (dk_at dksX6_region_2 1 rfl rfl)
theorem dX6_region_52 : decode cX6_region 52 = .ok (.iload_n 2, 1) := dk_28 (dk_at dksX6_region_2 4 rfl rfl)
theorem dX6_region_53 : decode cX6_region 53 = .ok (.invokevirtual 121, 3) := dk_182 0 121 (dk_at dksX6_region_2 5 rfl rfl)
theorem dX6_region_56 : decode cX6_region 56 = .ok (.goto 4, 3) := dk_167 0 4 (dk_at dksX6_region_2 8 rfl rfl)
theorem dX6_region_59 : decode cX6_region 59 = .ok (.lconst 0, 1) := dk_9 (dk_at dksX6_region_2 11 rfl rfl)
theorem dX6_region_60 : decode cX6_region 60 = .ok (.lreturn, 1) := dk_173 (dk_at dksX6_region_2 12 rfl rfl)
abbrev cX6_isOutside : ByteArray := prog_14_method_41_code
def yX6_isOutside : MethodName := ⟨RX6, "isOutside", "(II)Z"⟩
def dkwX6_isOutside_0 : List UInt8 := [42, 27, 182, 0, 111, 28, 123, 10, 127, 10, 148, 154, 0, 7, 4, 167, 0, 4, 3, 172]
abbrev dktX6_isOutside_0 : List UInt8 := dkwX6_isOutside_0 ++ []
theorem dksX6_isOutside_0 : cX6_isOutside.data.toList.drop 0 = dktX6_isOutside_0 := by decide +kernel
theorem dX6_isOutside_0 : decode cX6_isOutside 0 = .ok (.aload_n 0, 1) := dk_42 (dk_at dksX6_isOutside_0 0 rfl rfl)
theorem dX6_isOutside_1 : decode cX6_isOutside 1 = .ok (.iload_n 1, 1) := dk_27 (dk_at dksX6_isOutside_0 1 rfl rfl)
theorem dX6_isOutside_2 : decode cX6_isOutside 2 = .ok (.invokevirtual 111, 3) := dk_182 0 111 (dk_at dksX6_isOutside_0 2 rfl rfl)
theorem dX6_isOutside_5 : decode cX6_isOutside 5 = .ok (.iload_n 2, 1) := dk_28 (dk_at dksX6_isOutside_0 5 rfl rfl)
theorem dX6_isOutside_6 : decode cX6_isOutside 6 = .ok (.lshr, 1) := dk_123 (dk_at dksX6_isOutside_0 6 rfl rfl)
theorem dX6_isOutside_7 : decode cX6_isOutside 7 = .ok (.lconst 1, 1) := dk_10 (dk_at dksX6_isOutside_0 7 rfl rfl)
theorem dX6_isOutside_8 : decode cX6_isOutside 8 = .ok (.land, 1) := dk_127 (dk_at dksX6_isOutside_0 8 rfl rfl)
theorem dX6_isOutside_9 : decode cX6_isOutside 9 = .ok (.lconst 1, 1) := dk_10 (dk_at dksX6_isOutside_0 9 rfl rfl)
theorem dX6_isOutside_10 : decode cX6_isOutside 10 = .ok (.lcmp, 1) := dk_148 (dk_at dksX6_isOutside_0 10 rfl rfl)
theorem dX6_isOutside_11 : decode cX6_isOutside 11 = .ok (.ifCond .ne 7, 3) := dk_154 0 7 (dk_at dksX6_isOutside_0 11 rfl rfl)
theorem dX6_isOutside_14 : decode cX6_isOutside 14 = .ok (.iconst 1, 1) := dk_4 (dk_at dksX6_isOutside_0 14 rfl rfl)
theorem dX6_isOutside_15 : decode cX6_isOutside 15 = .ok (.goto 4, 3) := dk_167 0 4 (dk_at dksX6_isOutside_0 15 rfl rfl)
theorem dX6_isOutside_18 : decode cX6_isOutside 18 = .ok (.iconst 0, 1) := dk_3 (dk_at dksX6_isOutside_0 18 rfl rfl)
theorem dX6_isOutside_19 : decode cX6_isOutside 19 = .ok (.ireturn, 1) := dk_172 (dk_at dksX6_isOutside_0 19 rfl rfl)
abbrev cX6_cells_2 : ByteArray := prog_14_method_43_code
def yX6_cells_2 : MethodName := ⟨RX6, "cells", "(I)J"⟩
def dkwX6_cells_2_1 : List UInt8 := [154, 0, 11, 42, 27, 182, 0, 105, 167, 0, 4, 9, 173]
abbrev dktX6_cells_2_1 : List UInt8 := dkwX6_cells_2_1 ++ []
def dkwX6_cells_2_0 : List UInt8 := [42, 27, 3, 8, 184, 0, 80, 153, 0, 7, 3, 167, 0, 4, 4, 181, 0, 73, 42, 180, 0, 73]
abbrev dktX6_cells_2_0 : List UInt8 := dkwX6_cells_2_0 ++ dktX6_cells_2_1
theorem dksX6_cells_2_0 : cX6_cells_2.data.toList.drop 0 = dktX6_cells_2_0 := by decide +kernel
theorem dksX6_cells_2_1 : cX6_cells_2.data.toList.drop 22 = dktX6_cells_2_1 := dk_seg dksX6_cells_2_0 22 rfl rfl
theorem dX6_cells_2_0 : decode cX6_cells_2 0 = .ok (.aload_n 0, 1) := dk_42 (dk_at dksX6_cells_2_0 0 rfl rfl)
theorem dX6_cells_2_1 : decode cX6_cells_2 1 = .ok (.iload_n 1, 1) := dk_27 (dk_at dksX6_cells_2_0 1 rfl rfl)
theorem dX6_cells_2_2 : decode cX6_cells_2 2 = .ok (.iconst 0, 1) := dk_3 (dk_at dksX6_cells_2_0 2 rfl rfl)
theorem dX6_cells_2_3 : decode cX6_cells_2 3 = .ok (.iconst 5, 1) := dk_8 (dk_at dksX6_cells_2_0 3 rfl rfl)
theorem dX6_cells_2_4 : decode cX6_cells_2 4 = .ok (.invokestatic 80, 3) := dk_184 0 80 (dk_at dksX6_cells_2_0 4 rfl rfl)
theorem dX6_cells_2_7 : decode cX6_cells_2 7 = .ok (.ifCond .eq 7, 3) := dk_153 0 7 (dk_at dksX6_cells_2_0 7 rfl rfl)
theorem dX6_cells_2_10 : decode cX6_cells_2 10 = .ok (.iconst 0, 1) := dk_3 (dk_at dksX6_cells_2_0 10 rfl rfl)
theorem dX6_cells_2_11 : decode cX6_cells_2 11 = .ok (.goto 4, 3) := dk_167 0 4 (dk_at dksX6_cells_2_0 11 rfl rfl)
theorem dX6_cells_2_14 : decode cX6_cells_2 14 = .ok (.iconst 1, 1) := dk_4 (dk_at dksX6_cells_2_0 14 rfl rfl)
theorem dX6_cells_2_15 : decode cX6_cells_2 15 = .ok (.putfield 73, 3) := dk_181 0 73 (dk_at dksX6_cells_2_0 15 rfl rfl)
theorem dX6_cells_2_18 : decode cX6_cells_2 18 = .ok (.aload_n 0, 1) := dk_42 (dk_at dksX6_cells_2_0 18 rfl rfl)
theorem dX6_cells_2_19 : decode cX6_cells_2 19 = .ok (.getfield 73, 3) := dk_180 0 73 (dk_at dksX6_cells_2_0 19 rfl rfl)
theorem dX6_cells_2_22 : decode cX6_cells_2 22 = .ok (.ifCond .ne 11, 3) := dk_154 0 11 (dk_at dksX6_cells_2_1 0 rfl rfl)
theorem dX6_cells_2_25 : decode cX6_cells_2 25 = .ok (.aload_n 0, 1) := dk_42 (dk_at dksX6_cells_2_1 3 rfl rfl)
theorem dX6_cells_2_26 : decode cX6_cells_2 26 = .ok (.iload_n 1, 1) := dk_27 (dk_at dksX6_cells_2_1 4 rfl rfl)
theorem dX6_cells_2_27 : decode cX6_cells_2 27 = .ok (.invokevirtual 105, 3) := dk_182 0 105 (dk_at dksX6_cells_2_1 5 rfl rfl)
theorem dX6_cells_2_30 : decode cX6_cells_2 30 = .ok (.goto 4, 3) := dk_167 0 4 (dk_at dksX6_cells_2_1 8 rfl rfl)
theorem dX6_cells_2_33 : decode cX6_cells_2 33 = .ok (.lconst 0, 1) := dk_9 (dk_at dksX6_cells_2_1 11 rfl rfl)
theorem dX6_cells_2_34 : decode cX6_cells_2 34 = .ok (.lreturn, 1) := dk_173 (dk_at dksX6_cells_2_1 12 rfl rfl)
abbrev cX6_chain : ByteArray := prog_14_method_44_code
def yX6_chain : MethodName := ⟨RX6, "chain", "(I)J"⟩
def dkwX6_chain_2 : List UInt8 := [42, 42, 42, 180, 0, 20, 27, 46, 182, 0, 105, 27, 182, 0, 121, 167, 0, 4, 9, 173]
abbrev dktX6_chain_2 : List UInt8 := dkwX6_chain_2 ++ []
def dkwX6_chain_1 : List UInt8 := [180, 0, 20, 27, 46, 5, 159, 0, 7, 5, 167, 0, 4, 3, 181, 0, 73, 42, 180, 0, 73, 154, 0, 21]
abbrev dktX6_chain_1 : List UInt8 := dkwX6_chain_1 ++ dktX6_chain_2
def dkwX6_chain_0 : List UInt8 := [42, 42, 27, 182, 0, 150, 154, 0, 7, 4, 167, 0, 28, 42, 180, 0, 20, 27, 46, 4, 159, 0, 17, 42]
abbrev dktX6_chain_0 : List UInt8 := dkwX6_chain_0 ++ dktX6_chain_1
theorem dksX6_chain_0 : cX6_chain.data.toList.drop 0 = dktX6_chain_0 := by decide +kernel
theorem dksX6_chain_1 : cX6_chain.data.toList.drop 24 = dktX6_chain_1 := dk_seg dksX6_chain_0 24 rfl rfl
theorem dksX6_chain_2 : cX6_chain.data.toList.drop 48 = dktX6_chain_2 := dk_seg dksX6_chain_1 24 rfl rfl
theorem dX6_chain_0 : decode cX6_chain 0 = .ok (.aload_n 0, 1) := dk_42 (dk_at dksX6_chain_0 0 rfl rfl)
theorem dX6_chain_1 : decode cX6_chain 1 = .ok (.aload_n 0, 1) := dk_42 (dk_at dksX6_chain_0 1 rfl rfl)
theorem dX6_chain_2 : decode cX6_chain 2 = .ok (.iload_n 1, 1) := dk_27 (dk_at dksX6_chain_0 2 rfl rfl)
theorem dX6_chain_3 : decode cX6_chain 3 = .ok (.invokevirtual 150, 3) := dk_182 0 150 (dk_at dksX6_chain_0 3 rfl rfl)
theorem dX6_chain_6 : decode cX6_chain 6 = .ok (.ifCond .ne 7, 3) := dk_154 0 7 (dk_at dksX6_chain_0 6 rfl rfl)
theorem dX6_chain_9 : decode cX6_chain 9 = .ok (.iconst 1, 1) := dk_4 (dk_at dksX6_chain_0 9 rfl rfl)
theorem dX6_chain_10 : decode cX6_chain 10 = .ok (.goto 28, 3) := dk_167 0 28 (dk_at dksX6_chain_0 10 rfl rfl)
theorem dX6_chain_13 : decode cX6_chain 13 = .ok (.aload_n 0, 1) := dk_42 (dk_at dksX6_chain_0 13 rfl rfl)
theorem dX6_chain_14 : decode cX6_chain 14 = .ok (.getfield 20, 3) := dk_180 0 20 (dk_at dksX6_chain_0 14 rfl rfl)
theorem dX6_chain_17 : decode cX6_chain 17 = .ok (.iload_n 1, 1) := dk_27 (dk_at dksX6_chain_0 17 rfl rfl)
theorem dX6_chain_18 : decode cX6_chain 18 = .ok (.iaload, 1) := dk_46 (dk_at dksX6_chain_0 18 rfl rfl)
theorem dX6_chain_19 : decode cX6_chain 19 = .ok (.iconst 1, 1) := dk_4 (dk_at dksX6_chain_0 19 rfl rfl)
theorem dX6_chain_20 : decode cX6_chain 20 = .ok (.if_icmp .eq 17, 3) := dk_159 0 17 (dk_at dksX6_chain_0 20 rfl rfl)
theorem dX6_chain_23 : decode cX6_chain 23 = .ok (.aload_n 0, 1) := dk_42 (dk_at dksX6_chain_0 23 rfl rfl)
theorem dX6_chain_24 : decode cX6_chain 24 = .ok (.getfield 20, 3) := dk_180 0 20 (dk_at dksX6_chain_1 0 rfl rfl)
theorem dX6_chain_27 : decode cX6_chain 27 = .ok (.iload_n 1, 1) := dk_27 (dk_at dksX6_chain_1 3 rfl rfl)
theorem dX6_chain_28 : decode cX6_chain 28 = .ok (.iaload, 1) := dk_46 (dk_at dksX6_chain_1 4 rfl rfl)
theorem dX6_chain_29 : decode cX6_chain 29 = .ok (.iconst 2, 1) := dk_5 (dk_at dksX6_chain_1 5 rfl rfl)
theorem dX6_chain_30 : decode cX6_chain 30 = .ok (.if_icmp .eq 7, 3) := dk_159 0 7 (dk_at dksX6_chain_1 6 rfl rfl)
theorem dX6_chain_33 : decode cX6_chain 33 = .ok (.iconst 2, 1) := dk_5 (dk_at dksX6_chain_1 9 rfl rfl)
theorem dX6_chain_34 : decode cX6_chain 34 = .ok (.goto 4, 3) := dk_167 0 4 (dk_at dksX6_chain_1 10 rfl rfl)
theorem dX6_chain_37 : decode cX6_chain 37 = .ok (.iconst 0, 1) := dk_3 (dk_at dksX6_chain_1 13 rfl rfl)
theorem dX6_chain_38 : decode cX6_chain 38 = .ok (.putfield 73, 3) := dk_181 0 73 (dk_at dksX6_chain_1 14 rfl rfl)
theorem dX6_chain_41 : decode cX6_chain 41 = .ok (.aload_n 0, 1) := dk_42 (dk_at dksX6_chain_1 17 rfl rfl)
theorem dX6_chain_42 : decode cX6_chain 42 = .ok (.getfield 73, 3) := dk_180 0 73 (dk_at dksX6_chain_1 18 rfl rfl)
theorem dX6_chain_45 : decode cX6_chain 45 = .ok (.ifCond .ne 21, 3) := dk_154 0 21 (dk_at dksX6_chain_1 21 rfl rfl)
theorem dX6_chain_48 : decode cX6_chain 48 = .ok (.aload_n 0, 1) := dk_42 (dk_at dksX6_chain_2 0 rfl rfl)
theorem dX6_chain_49 : decode cX6_chain 49 = .ok (.aload_n 0, 1) := dk_42 (dk_at dksX6_chain_2 1 rfl rfl)
theorem dX6_chain_50 : decode cX6_chain 50 = .ok (.aload_n 0, 1) := dk_42 (dk_at dksX6_chain_2 2 rfl rfl)
theorem dX6_chain_51 : decode cX6_chain 51 = .ok (.getfield 20, 3) := dk_180 0 20 (dk_at dksX6_chain_2 3 rfl rfl)
theorem dX6_chain_54 : decode cX6_chain 54 = .ok (.iload_n 1, 1) := dk_27 (dk_at dksX6_chain_2 6 rfl rfl)
theorem dX6_chain_55 : decode cX6_chain 55 = .ok (.iaload, 1) := dk_46 (dk_at dksX6_chain_2 7 rfl rfl)
theorem dX6_chain_56 : decode cX6_chain 56 = .ok (.invokevirtual 105, 3) := dk_182 0 105 (dk_at dksX6_chain_2 8 rfl rfl)
theorem dX6_chain_59 : decode cX6_chain 59 = .ok (.iload_n 1, 1) := dk_27 (dk_at dksX6_chain_2 11 rfl rfl)
theorem dX6_chain_60 : decode cX6_chain 60 = .ok (.invokevirtual 121, 3) := dk_182 0 121 (dk_at dksX6_chain_2 12 rfl rfl)
theorem dX6_chain_63 : decode cX6_chain 63 = .ok (.goto 4, 3) := dk_167 0 4 (dk_at dksX6_chain_2 15 rfl rfl)
theorem dX6_chain_66 : decode cX6_chain 66 = .ok (.lconst 0, 1) := dk_9 (dk_at dksX6_chain_2 18 rfl rfl)
theorem dX6_chain_67 : decode cX6_chain 67 = .ok (.lreturn, 1) := dk_173 (dk_at dksX6_chain_2 19 rfl rfl)
abbrev cX6_stonesToEnclose : ByteArray := prog_14_method_46_code
def yX6_stonesToEnclose : MethodName := ⟨RX6, "stonesToEnclose", "(II)I"⟩
def dkwX6_stonesToEnclose_9 : List UInt8 := [167, 0, 8, 42, 5, 182, 0, 178, 172]
abbrev dktX6_stonesToEnclose_9 : List UInt8 := dkwX6_stonesToEnclose_9 ++ []
def dkwX6_stonesToEnclose_8 : List UInt8 := [5, 54, 7, 132, 9, 1, 167, 255, 196, 132, 8, 1, 167, 255, 140, 21, 7, 5, 160, 0, 7, 5]
abbrev dktX6_stonesToEnclose_8 : List UInt8 := dkwX6_stonesToEnclose_8 ++ dktX6_stonesToEnclose_9
def dkwX6_stonesToEnclose_7 : List UInt8 := [21, 8, 121, 20, 0, 95, 131, 127, 10, 21, 9, 121, 20, 0, 95, 131, 127, 28, 182, 0, 188, 153, 0, 6]
abbrev dktX6_stonesToEnclose_7 : List UInt8 := dkwX6_stonesToEnclose_7 ++ dktX6_stonesToEnclose_8
def dkwX6_stonesToEnclose_6 : List UInt8 := [162, 0, 57, 21, 7, 5, 164, 0, 51, 22, 5, 21, 9, 123, 10, 127, 10, 148, 154, 0, 33, 42, 33, 10]
abbrev dktX6_stonesToEnclose_6 : List UInt8 := dkwX6_stonesToEnclose_6 ++ dktX6_stonesToEnclose_7
def dkwX6_stonesToEnclose_5 : List UInt8 := [131, 127, 28, 182, 0, 188, 153, 0, 5, 4, 172, 21, 8, 4, 96, 54, 9, 21, 9, 42, 182, 0, 76]
abbrev dktX6_stonesToEnclose_5 : List UInt8 := dkwX6_stonesToEnclose_5 ++ dktX6_stonesToEnclose_6
def dkwX6_stonesToEnclose_4 : List UInt8 := [22, 5, 21, 8, 123, 10, 127, 9, 148, 154, 0, 6, 167, 0, 92, 42, 33, 10, 21, 8, 121, 20, 0, 95]
abbrev dktX6_stonesToEnclose_4 : List UInt8 := dkwX6_stonesToEnclose_4 ++ dktX6_stonesToEnclose_5
def dkwX6_stonesToEnclose_3 : List UInt8 := [121, 20, 0, 95, 131, 127, 55, 5, 6, 54, 7, 3, 54, 8, 21, 8, 42, 182, 0, 76, 162, 0, 113]
abbrev dktX6_stonesToEnclose_3 : List UInt8 := dkwX6_stonesToEnclose_3 ++ dktX6_stonesToEnclose_4
def dkwX6_stonesToEnclose_2 : List UInt8 := [42, 27, 182, 0, 111, 66, 42, 33, 28, 182, 0, 188, 153, 0, 5, 3, 172, 42, 3, 182, 0, 105, 10, 28]
abbrev dktX6_stonesToEnclose_2 : List UInt8 := dkwX6_stonesToEnclose_2 ++ dktX6_stonesToEnclose_3
def dkwX6_stonesToEnclose_1 : List UInt8 := [28, 182, 0, 185, 154, 0, 7, 5, 167, 0, 4, 3, 181, 0, 73, 42, 180, 0, 73, 158, 0, 5, 3, 172]
abbrev dktX6_stonesToEnclose_1 : List UInt8 := dkwX6_stonesToEnclose_1 ++ dktX6_stonesToEnclose_2
def dkwX6_stonesToEnclose_0 : List UInt8 := [42, 27, 3, 4, 184, 0, 80, 153, 0, 11, 42, 28, 182, 0, 150, 154, 0, 7, 4, 167, 0, 17, 42, 27]
abbrev dktX6_stonesToEnclose_0 : List UInt8 := dkwX6_stonesToEnclose_0 ++ dktX6_stonesToEnclose_1
theorem dksX6_stonesToEnclose_0 : cX6_stonesToEnclose.data.toList.drop 0 = dktX6_stonesToEnclose_0 := by decide +kernel
theorem dksX6_stonesToEnclose_1 : cX6_stonesToEnclose.data.toList.drop 24 = dktX6_stonesToEnclose_1 := dk_seg dksX6_stonesToEnclose_0 24 rfl rfl
theorem dksX6_stonesToEnclose_2 : cX6_stonesToEnclose.data.toList.drop 48 = dktX6_stonesToEnclose_2 := dk_seg dksX6_stonesToEnclose_1 24 rfl rfl
theorem dksX6_stonesToEnclose_3 : cX6_stonesToEnclose.data.toList.drop 72 = dktX6_stonesToEnclose_3 := dk_seg dksX6_stonesToEnclose_2 24 rfl rfl
theorem dksX6_stonesToEnclose_4 : cX6_stonesToEnclose.data.toList.drop 95 = dktX6_stonesToEnclose_4 := dk_seg dksX6_stonesToEnclose_3 23 rfl rfl
theorem dksX6_stonesToEnclose_5 : cX6_stonesToEnclose.data.toList.drop 119 = dktX6_stonesToEnclose_5 := dk_seg dksX6_stonesToEnclose_4 24 rfl rfl
theorem dksX6_stonesToEnclose_6 : cX6_stonesToEnclose.data.toList.drop 142 = dktX6_stonesToEnclose_6 := dk_seg dksX6_stonesToEnclose_5 23 rfl rfl
theorem dksX6_stonesToEnclose_7 : cX6_stonesToEnclose.data.toList.drop 166 = dktX6_stonesToEnclose_7 := dk_seg dksX6_stonesToEnclose_6 24 rfl rfl
theorem dksX6_stonesToEnclose_8 : cX6_stonesToEnclose.data.toList.drop 190 = dktX6_stonesToEnclose_8 := dk_seg dksX6_stonesToEnclose_7 24 rfl rfl
theorem dksX6_stonesToEnclose_9 : cX6_stonesToEnclose.data.toList.drop 212 = dktX6_stonesToEnclose_9 := dk_seg dksX6_stonesToEnclose_8 22 rfl rfl
theorem dX6_stonesToEnclose_0 : decode cX6_stonesToEnclose 0 = .ok (.aload_n 0, 1) := dk_42 (dk_at dksX6_stonesToEnclose_0 0 rfl rfl)
theorem dX6_stonesToEnclose_1 : decode cX6_stonesToEnclose 1 = .ok (.iload_n 1, 1) := dk_27 (dk_at dksX6_stonesToEnclose_0 1 rfl rfl)
theorem dX6_stonesToEnclose_2 : decode cX6_stonesToEnclose 2 = .ok (.iconst 0, 1) := dk_3 (dk_at dksX6_stonesToEnclose_0 2 rfl rfl)
theorem dX6_stonesToEnclose_3 : decode cX6_stonesToEnclose 3 = .ok (.iconst 1, 1) := dk_4 (dk_at dksX6_stonesToEnclose_0 3 rfl rfl)
theorem dX6_stonesToEnclose_4 : decode cX6_stonesToEnclose 4 = .ok (.invokestatic 80, 3) := dk_184 0 80 (dk_at dksX6_stonesToEnclose_0 4 rfl rfl)
theorem dX6_stonesToEnclose_7 : decode cX6_stonesToEnclose 7 = .ok (.ifCond .eq 11, 3) := dk_153 0 11 (dk_at dksX6_stonesToEnclose_0 7 rfl rfl)
theorem dX6_stonesToEnclose_10 : decode cX6_stonesToEnclose 10 = .ok (.aload_n 0, 1) := dk_42 (dk_at dksX6_stonesToEnclose_0 10 rfl rfl)
theorem dX6_stonesToEnclose_11 : decode cX6_stonesToEnclose 11 = .ok (.iload_n 2, 1) := dk_28 (dk_at dksX6_stonesToEnclose_0 11 rfl rfl)
theorem dX6_stonesToEnclose_12 : decode cX6_stonesToEnclose 12 = .ok (.invokevirtual 150, 3) := dk_182 0 150 (dk_at dksX6_stonesToEnclose_0 12 rfl rfl)
theorem dX6_stonesToEnclose_15 : decode cX6_stonesToEnclose 15 = .ok (.ifCond .ne 7, 3) := dk_154 0 7 (dk_at dksX6_stonesToEnclose_0 15 rfl rfl)
theorem dX6_stonesToEnclose_18 : decode cX6_stonesToEnclose 18 = .ok (.iconst 1, 1) := dk_4 (dk_at dksX6_stonesToEnclose_0 18 rfl rfl)
theorem dX6_stonesToEnclose_19 : decode cX6_stonesToEnclose 19 = .ok (.goto 17, 3) := dk_167 0 17 (dk_at dksX6_stonesToEnclose_0 19 rfl rfl)
theorem dX6_stonesToEnclose_22 : decode cX6_stonesToEnclose 22 = .ok (.aload_n 0, 1) := dk_42 (dk_at dksX6_stonesToEnclose_0 22 rfl rfl)
theorem dX6_stonesToEnclose_23 : decode cX6_stonesToEnclose 23 = .ok (.iload_n 1, 1) := dk_27 (dk_at dksX6_stonesToEnclose_0 23 rfl rfl)
theorem dX6_stonesToEnclose_24 : decode cX6_stonesToEnclose 24 = .ok (.iload_n 2, 1) := dk_28 (dk_at dksX6_stonesToEnclose_1 0 rfl rfl)
theorem dX6_stonesToEnclose_25 : decode cX6_stonesToEnclose 25 = .ok (.invokevirtual 185, 3) := dk_182 0 185 (dk_at dksX6_stonesToEnclose_1 1 rfl rfl)
theorem dX6_stonesToEnclose_28 : decode cX6_stonesToEnclose 28 = .ok (.ifCond .ne 7, 3) := dk_154 0 7 (dk_at dksX6_stonesToEnclose_1 4 rfl rfl)
theorem dX6_stonesToEnclose_31 : decode cX6_stonesToEnclose 31 = .ok (.iconst 2, 1) := dk_5 (dk_at dksX6_stonesToEnclose_1 7 rfl rfl)
theorem dX6_stonesToEnclose_32 : decode cX6_stonesToEnclose 32 = .ok (.goto 4, 3) := dk_167 0 4 (dk_at dksX6_stonesToEnclose_1 8 rfl rfl)
theorem dX6_stonesToEnclose_35 : decode cX6_stonesToEnclose 35 = .ok (.iconst 0, 1) := dk_3 (dk_at dksX6_stonesToEnclose_1 11 rfl rfl)
theorem dX6_stonesToEnclose_36 : decode cX6_stonesToEnclose 36 = .ok (.putfield 73, 3) := dk_181 0 73 (dk_at dksX6_stonesToEnclose_1 12 rfl rfl)
theorem dX6_stonesToEnclose_39 : decode cX6_stonesToEnclose 39 = .ok (.aload_n 0, 1) := dk_42 (dk_at dksX6_stonesToEnclose_1 15 rfl rfl)
theorem dX6_stonesToEnclose_40 : decode cX6_stonesToEnclose 40 = .ok (.getfield 73, 3) := dk_180 0 73 (dk_at dksX6_stonesToEnclose_1 16 rfl rfl)
theorem dX6_stonesToEnclose_43 : decode cX6_stonesToEnclose 43 = .ok (.ifCond .le 5, 3) := dk_158 0 5 (dk_at dksX6_stonesToEnclose_1 19 rfl rfl)
theorem dX6_stonesToEnclose_46 : decode cX6_stonesToEnclose 46 = .ok (.iconst 0, 1) := dk_3 (dk_at dksX6_stonesToEnclose_1 22 rfl rfl)
theorem dX6_stonesToEnclose_47 : decode cX6_stonesToEnclose 47 = .ok (.ireturn, 1) := dk_172 (dk_at dksX6_stonesToEnclose_1 23 rfl rfl)
theorem dX6_stonesToEnclose_48 : decode cX6_stonesToEnclose 48 = .ok (.aload_n 0, 1) := dk_42 (dk_at dksX6_stonesToEnclose_2 0 rfl rfl)
theorem dX6_stonesToEnclose_49 : decode cX6_stonesToEnclose 49 = .ok (.iload_n 1, 1) := dk_27 (dk_at dksX6_stonesToEnclose_2 1 rfl rfl)
theorem dX6_stonesToEnclose_50 : decode cX6_stonesToEnclose 50 = .ok (.invokevirtual 111, 3) := dk_182 0 111 (dk_at dksX6_stonesToEnclose_2 2 rfl rfl)
theorem dX6_stonesToEnclose_53 : decode cX6_stonesToEnclose 53 = .ok (.lstore_n 3, 1) := dk_66 (dk_at dksX6_stonesToEnclose_2 5 rfl rfl)
theorem dX6_stonesToEnclose_54 : decode cX6_stonesToEnclose 54 = .ok (.aload_n 0, 1) := dk_42 (dk_at dksX6_stonesToEnclose_2 6 rfl rfl)
theorem dX6_stonesToEnclose_55 : decode cX6_stonesToEnclose 55 = .ok (.lload_n 3, 1) := dk_33 (dk_at dksX6_stonesToEnclose_2 7 rfl rfl)
theorem dX6_stonesToEnclose_56 : decode cX6_stonesToEnclose 56 = .ok (.iload_n 2, 1) := dk_28 (dk_at dksX6_stonesToEnclose_2 8 rfl rfl)
theorem dX6_stonesToEnclose_57 : decode cX6_stonesToEnclose 57 = .ok (.invokevirtual 188, 3) := dk_182 0 188 (dk_at dksX6_stonesToEnclose_2 9 rfl rfl)
theorem dX6_stonesToEnclose_60 : decode cX6_stonesToEnclose 60 = .ok (.ifCond .eq 5, 3) := dk_153 0 5 (dk_at dksX6_stonesToEnclose_2 12 rfl rfl)
theorem dX6_stonesToEnclose_63 : decode cX6_stonesToEnclose 63 = .ok (.iconst 0, 1) := dk_3 (dk_at dksX6_stonesToEnclose_2 15 rfl rfl)
theorem dX6_stonesToEnclose_64 : decode cX6_stonesToEnclose 64 = .ok (.ireturn, 1) := dk_172 (dk_at dksX6_stonesToEnclose_2 16 rfl rfl)
theorem dX6_stonesToEnclose_65 : decode cX6_stonesToEnclose 65 = .ok (.aload_n 0, 1) := dk_42 (dk_at dksX6_stonesToEnclose_2 17 rfl rfl)
theorem dX6_stonesToEnclose_66 : decode cX6_stonesToEnclose 66 = .ok (.iconst 0, 1) := dk_3 (dk_at dksX6_stonesToEnclose_2 18 rfl rfl)
theorem dX6_stonesToEnclose_67 : decode cX6_stonesToEnclose 67 = .ok (.invokevirtual 105, 3) := dk_182 0 105 (dk_at dksX6_stonesToEnclose_2 19 rfl rfl)
theorem dX6_stonesToEnclose_70 : decode cX6_stonesToEnclose 70 = .ok (.lconst 1, 1) := dk_10 (dk_at dksX6_stonesToEnclose_2 22 rfl rfl)
theorem dX6_stonesToEnclose_71 : decode cX6_stonesToEnclose 71 = .ok (.iload_n 2, 1) := dk_28 (dk_at dksX6_stonesToEnclose_2 23 rfl rfl)
theorem dX6_stonesToEnclose_72 : decode cX6_stonesToEnclose 72 = .ok (.lshl, 1) := dk_121 (dk_at dksX6_stonesToEnclose_3 0 rfl rfl)
theorem dX6_stonesToEnclose_73 : decode cX6_stonesToEnclose 73 = .ok (.ldc2_w 95, 3) := dk_20 0 95 (dk_at dksX6_stonesToEnclose_3 1 rfl rfl)
theorem dX6_stonesToEnclose_76 : decode cX6_stonesToEnclose 76 = .ok (.lxor, 1) := dk_131 (dk_at dksX6_stonesToEnclose_3 4 rfl rfl)
theorem dX6_stonesToEnclose_77 : decode cX6_stonesToEnclose 77 = .ok (.land, 1) := dk_127 (dk_at dksX6_stonesToEnclose_3 5 rfl rfl)
theorem dX6_stonesToEnclose_78 : decode cX6_stonesToEnclose 78 = .ok (.lstore 5, 2) := dk_55 5 (dk_at dksX6_stonesToEnclose_3 6 rfl rfl)
theorem dX6_stonesToEnclose_80 : decode cX6_stonesToEnclose 80 = .ok (.iconst 3, 1) := dk_6 (dk_at dksX6_stonesToEnclose_3 8 rfl rfl)
theorem dX6_stonesToEnclose_81 : decode cX6_stonesToEnclose 81 = .ok (.istore 7, 2) := dk_54 7 (dk_at dksX6_stonesToEnclose_3 9 rfl rfl)
theorem dX6_stonesToEnclose_83 : decode cX6_stonesToEnclose 83 = .ok (.iconst 0, 1) := dk_3 (dk_at dksX6_stonesToEnclose_3 11 rfl rfl)
theorem dX6_stonesToEnclose_84 : decode cX6_stonesToEnclose 84 = .ok (.istore 8, 2) := dk_54 8 (dk_at dksX6_stonesToEnclose_3 12 rfl rfl)
theorem dX6_stonesToEnclose_86 : decode cX6_stonesToEnclose 86 = .ok (.iload 8, 2) := dk_21 8 (dk_at dksX6_stonesToEnclose_3 14 rfl rfl)
theorem dX6_stonesToEnclose_88 : decode cX6_stonesToEnclose 88 = .ok (.aload_n 0, 1) := dk_42 (dk_at dksX6_stonesToEnclose_3 16 rfl rfl)
theorem dX6_stonesToEnclose_89 : decode cX6_stonesToEnclose 89 = .ok (.invokevirtual 76, 3) := dk_182 0 76 (dk_at dksX6_stonesToEnclose_3 17 rfl rfl)
theorem dX6_stonesToEnclose_92 : decode cX6_stonesToEnclose 92 = .ok (.if_icmp .ge 113, 3) := dk_162 0 113 (dk_at dksX6_stonesToEnclose_3 20 rfl rfl)
theorem dX6_stonesToEnclose_95 : decode cX6_stonesToEnclose 95 = .ok (.lload 5, 2) := dk_22 5 (dk_at dksX6_stonesToEnclose_4 0 rfl rfl)
theorem dX6_stonesToEnclose_97 : decode cX6_stonesToEnclose 97 = .ok (.iload 8, 2) := dk_21 8 (dk_at dksX6_stonesToEnclose_4 2 rfl rfl)
theorem dX6_stonesToEnclose_99 : decode cX6_stonesToEnclose 99 = .ok (.lshr, 1) := dk_123 (dk_at dksX6_stonesToEnclose_4 4 rfl rfl)
theorem dX6_stonesToEnclose_100 : decode cX6_stonesToEnclose 100 = .ok (.lconst 1, 1) := dk_10 (dk_at dksX6_stonesToEnclose_4 5 rfl rfl)
theorem dX6_stonesToEnclose_101 : decode cX6_stonesToEnclose 101 = .ok (.land, 1) := dk_127 (dk_at dksX6_stonesToEnclose_4 6 rfl rfl)
theorem dX6_stonesToEnclose_102 : decode cX6_stonesToEnclose 102 = .ok (.lconst 0, 1) := dk_9 (dk_at dksX6_stonesToEnclose_4 7 rfl rfl)
theorem dX6_stonesToEnclose_103 : decode cX6_stonesToEnclose 103 = .ok (.lcmp, 1) := dk_148 (dk_at dksX6_stonesToEnclose_4 8 rfl rfl)
theorem dX6_stonesToEnclose_104 : decode cX6_stonesToEnclose 104 = .ok (.ifCond .ne 6, 3) := dk_154 0 6 (dk_at dksX6_stonesToEnclose_4 9 rfl rfl)
theorem dX6_stonesToEnclose_107 : decode cX6_stonesToEnclose 107 = .ok (.goto 92, 3) := dk_167 0 92 (dk_at dksX6_stonesToEnclose_4 12 rfl rfl)
theorem dX6_stonesToEnclose_110 : decode cX6_stonesToEnclose 110 = .ok (.aload_n 0, 1) := dk_42 (dk_at dksX6_stonesToEnclose_4 15 rfl rfl)
theorem dX6_stonesToEnclose_111 : decode cX6_stonesToEnclose 111 = .ok (.lload_n 3, 1) := dk_33 (dk_at dksX6_stonesToEnclose_4 16 rfl rfl)
theorem dX6_stonesToEnclose_112 : decode cX6_stonesToEnclose 112 = .ok (.lconst 1, 1) := dk_10 (dk_at dksX6_stonesToEnclose_4 17 rfl rfl)
theorem dX6_stonesToEnclose_113 : decode cX6_stonesToEnclose 113 = .ok (.iload 8, 2) := dk_21 8 (dk_at dksX6_stonesToEnclose_4 18 rfl rfl)
theorem dX6_stonesToEnclose_115 : decode cX6_stonesToEnclose 115 = .ok (.lshl, 1) := dk_121 (dk_at dksX6_stonesToEnclose_4 20 rfl rfl)
theorem dX6_stonesToEnclose_116 : decode cX6_stonesToEnclose 116 = .ok (.ldc2_w 95, 3) := dk_20 0 95 (dk_at dksX6_stonesToEnclose_4 21 rfl rfl)
theorem dX6_stonesToEnclose_119 : decode cX6_stonesToEnclose 119 = .ok (.lxor, 1) := dk_131 (dk_at dksX6_stonesToEnclose_5 0 rfl rfl)
theorem dX6_stonesToEnclose_120 : decode cX6_stonesToEnclose 120 = .ok (.land, 1) := dk_127 (dk_at dksX6_stonesToEnclose_5 1 rfl rfl)
theorem dX6_stonesToEnclose_121 : decode cX6_stonesToEnclose 121 = .ok (.iload_n 2, 1) := dk_28 (dk_at dksX6_stonesToEnclose_5 2 rfl rfl)
theorem dX6_stonesToEnclose_122 : decode cX6_stonesToEnclose 122 = .ok (.invokevirtual 188, 3) := dk_182 0 188 (dk_at dksX6_stonesToEnclose_5 3 rfl rfl)
theorem dX6_stonesToEnclose_125 : decode cX6_stonesToEnclose 125 = .ok (.ifCond .eq 5, 3) := dk_153 0 5 (dk_at dksX6_stonesToEnclose_5 6 rfl rfl)
theorem dX6_stonesToEnclose_128 : decode cX6_stonesToEnclose 128 = .ok (.iconst 1, 1) := dk_4 (dk_at dksX6_stonesToEnclose_5 9 rfl rfl)
theorem dX6_stonesToEnclose_129 : decode cX6_stonesToEnclose 129 = .ok (.ireturn, 1) := dk_172 (dk_at dksX6_stonesToEnclose_5 10 rfl rfl)
theorem dX6_stonesToEnclose_130 : decode cX6_stonesToEnclose 130 = .ok (.iload 8, 2) := dk_21 8 (dk_at dksX6_stonesToEnclose_5 11 rfl rfl)
theorem dX6_stonesToEnclose_132 : decode cX6_stonesToEnclose 132 = .ok (.iconst 1, 1) := dk_4 (dk_at dksX6_stonesToEnclose_5 13 rfl rfl)
theorem dX6_stonesToEnclose_133 : decode cX6_stonesToEnclose 133 = .ok (.iadd, 1) := dk_96 (dk_at dksX6_stonesToEnclose_5 14 rfl rfl)
theorem dX6_stonesToEnclose_134 : decode cX6_stonesToEnclose 134 = .ok (.istore 9, 2) := dk_54 9 (dk_at dksX6_stonesToEnclose_5 15 rfl rfl)
theorem dX6_stonesToEnclose_136 : decode cX6_stonesToEnclose 136 = .ok (.iload 9, 2) := dk_21 9 (dk_at dksX6_stonesToEnclose_5 17 rfl rfl)
theorem dX6_stonesToEnclose_138 : decode cX6_stonesToEnclose 138 = .ok (.aload_n 0, 1) := dk_42 (dk_at dksX6_stonesToEnclose_5 19 rfl rfl)
theorem dX6_stonesToEnclose_139 : decode cX6_stonesToEnclose 139 = .ok (.invokevirtual 76, 3) := dk_182 0 76 (dk_at dksX6_stonesToEnclose_5 20 rfl rfl)
theorem dX6_stonesToEnclose_142 : decode cX6_stonesToEnclose 142 = .ok (.if_icmp .ge 57, 3) := dk_162 0 57 (dk_at dksX6_stonesToEnclose_6 0 rfl rfl)
theorem dX6_stonesToEnclose_145 : decode cX6_stonesToEnclose 145 = .ok (.iload 7, 2) := dk_21 7 (dk_at dksX6_stonesToEnclose_6 3 rfl rfl)
theorem dX6_stonesToEnclose_147 : decode cX6_stonesToEnclose 147 = .ok (.iconst 2, 1) := dk_5 (dk_at dksX6_stonesToEnclose_6 5 rfl rfl)
theorem dX6_stonesToEnclose_148 : decode cX6_stonesToEnclose 148 = .ok (.if_icmp .le 51, 3) := dk_164 0 51 (dk_at dksX6_stonesToEnclose_6 6 rfl rfl)
theorem dX6_stonesToEnclose_151 : decode cX6_stonesToEnclose 151 = .ok (.lload 5, 2) := dk_22 5 (dk_at dksX6_stonesToEnclose_6 9 rfl rfl)
theorem dX6_stonesToEnclose_153 : decode cX6_stonesToEnclose 153 = .ok (.iload 9, 2) := dk_21 9 (dk_at dksX6_stonesToEnclose_6 11 rfl rfl)
theorem dX6_stonesToEnclose_155 : decode cX6_stonesToEnclose 155 = .ok (.lshr, 1) := dk_123 (dk_at dksX6_stonesToEnclose_6 13 rfl rfl)
theorem dX6_stonesToEnclose_156 : decode cX6_stonesToEnclose 156 = .ok (.lconst 1, 1) := dk_10 (dk_at dksX6_stonesToEnclose_6 14 rfl rfl)
theorem dX6_stonesToEnclose_157 : decode cX6_stonesToEnclose 157 = .ok (.land, 1) := dk_127 (dk_at dksX6_stonesToEnclose_6 15 rfl rfl)
theorem dX6_stonesToEnclose_158 : decode cX6_stonesToEnclose 158 = .ok (.lconst 1, 1) := dk_10 (dk_at dksX6_stonesToEnclose_6 16 rfl rfl)
theorem dX6_stonesToEnclose_159 : decode cX6_stonesToEnclose 159 = .ok (.lcmp, 1) := dk_148 (dk_at dksX6_stonesToEnclose_6 17 rfl rfl)
theorem dX6_stonesToEnclose_160 : decode cX6_stonesToEnclose 160 = .ok (.ifCond .ne 33, 3) := dk_154 0 33 (dk_at dksX6_stonesToEnclose_6 18 rfl rfl)
theorem dX6_stonesToEnclose_163 : decode cX6_stonesToEnclose 163 = .ok (.aload_n 0, 1) := dk_42 (dk_at dksX6_stonesToEnclose_6 21 rfl rfl)
theorem dX6_stonesToEnclose_164 : decode cX6_stonesToEnclose 164 = .ok (.lload_n 3, 1) := dk_33 (dk_at dksX6_stonesToEnclose_6 22 rfl rfl)
theorem dX6_stonesToEnclose_165 : decode cX6_stonesToEnclose 165 = .ok (.lconst 1, 1) := dk_10 (dk_at dksX6_stonesToEnclose_6 23 rfl rfl)
theorem dX6_stonesToEnclose_166 : decode cX6_stonesToEnclose 166 = .ok (.iload 8, 2) := dk_21 8 (dk_at dksX6_stonesToEnclose_7 0 rfl rfl)
theorem dX6_stonesToEnclose_168 : decode cX6_stonesToEnclose 168 = .ok (.lshl, 1) := dk_121 (dk_at dksX6_stonesToEnclose_7 2 rfl rfl)
theorem dX6_stonesToEnclose_169 : decode cX6_stonesToEnclose 169 = .ok (.ldc2_w 95, 3) := dk_20 0 95 (dk_at dksX6_stonesToEnclose_7 3 rfl rfl)
theorem dX6_stonesToEnclose_172 : decode cX6_stonesToEnclose 172 = .ok (.lxor, 1) := dk_131 (dk_at dksX6_stonesToEnclose_7 6 rfl rfl)
theorem dX6_stonesToEnclose_173 : decode cX6_stonesToEnclose 173 = .ok (.land, 1) := dk_127 (dk_at dksX6_stonesToEnclose_7 7 rfl rfl)
theorem dX6_stonesToEnclose_174 : decode cX6_stonesToEnclose 174 = .ok (.lconst 1, 1) := dk_10 (dk_at dksX6_stonesToEnclose_7 8 rfl rfl)
theorem dX6_stonesToEnclose_175 : decode cX6_stonesToEnclose 175 = .ok (.iload 9, 2) := dk_21 9 (dk_at dksX6_stonesToEnclose_7 9 rfl rfl)
theorem dX6_stonesToEnclose_177 : decode cX6_stonesToEnclose 177 = .ok (.lshl, 1) := dk_121 (dk_at dksX6_stonesToEnclose_7 11 rfl rfl)
theorem dX6_stonesToEnclose_178 : decode cX6_stonesToEnclose 178 = .ok (.ldc2_w 95, 3) := dk_20 0 95 (dk_at dksX6_stonesToEnclose_7 12 rfl rfl)
theorem dX6_stonesToEnclose_181 : decode cX6_stonesToEnclose 181 = .ok (.lxor, 1) := dk_131 (dk_at dksX6_stonesToEnclose_7 15 rfl rfl)
theorem dX6_stonesToEnclose_182 : decode cX6_stonesToEnclose 182 = .ok (.land, 1) := dk_127 (dk_at dksX6_stonesToEnclose_7 16 rfl rfl)
theorem dX6_stonesToEnclose_183 : decode cX6_stonesToEnclose 183 = .ok (.iload_n 2, 1) := dk_28 (dk_at dksX6_stonesToEnclose_7 17 rfl rfl)
theorem dX6_stonesToEnclose_184 : decode cX6_stonesToEnclose 184 = .ok (.invokevirtual 188, 3) := dk_182 0 188 (dk_at dksX6_stonesToEnclose_7 18 rfl rfl)
theorem dX6_stonesToEnclose_187 : decode cX6_stonesToEnclose 187 = .ok (.ifCond .eq 6, 3) := dk_153 0 6 (dk_at dksX6_stonesToEnclose_7 21 rfl rfl)
theorem dX6_stonesToEnclose_190 : decode cX6_stonesToEnclose 190 = .ok (.iconst 2, 1) := dk_5 (dk_at dksX6_stonesToEnclose_8 0 rfl rfl)
theorem dX6_stonesToEnclose_191 : decode cX6_stonesToEnclose 191 = .ok (.istore 7, 2) := dk_54 7 (dk_at dksX6_stonesToEnclose_8 1 rfl rfl)
theorem dX6_stonesToEnclose_193 : decode cX6_stonesToEnclose 193 = .ok (.iinc 9 1, 3) := dk_132 9 1 (dk_at dksX6_stonesToEnclose_8 3 rfl rfl)
theorem dX6_stonesToEnclose_196 : decode cX6_stonesToEnclose 196 = .ok (.goto (-60), 3) := dk_167 255 196 (dk_at dksX6_stonesToEnclose_8 6 rfl rfl)
theorem dX6_stonesToEnclose_199 : decode cX6_stonesToEnclose 199 = .ok (.iinc 8 1, 3) := dk_132 8 1 (dk_at dksX6_stonesToEnclose_8 9 rfl rfl)
theorem dX6_stonesToEnclose_202 : decode cX6_stonesToEnclose 202 = .ok (.goto (-116), 3) := dk_167 255 140 (dk_at dksX6_stonesToEnclose_8 12 rfl rfl)
theorem dX6_stonesToEnclose_205 : decode cX6_stonesToEnclose 205 = .ok (.iload 7, 2) := dk_21 7 (dk_at dksX6_stonesToEnclose_8 15 rfl rfl)
theorem dX6_stonesToEnclose_207 : decode cX6_stonesToEnclose 207 = .ok (.iconst 2, 1) := dk_5 (dk_at dksX6_stonesToEnclose_8 17 rfl rfl)
theorem dX6_stonesToEnclose_208 : decode cX6_stonesToEnclose 208 = .ok (.if_icmp .ne 7, 3) := dk_160 0 7 (dk_at dksX6_stonesToEnclose_8 18 rfl rfl)
theorem dX6_stonesToEnclose_211 : decode cX6_stonesToEnclose 211 = .ok (.iconst 2, 1) := dk_5 (dk_at dksX6_stonesToEnclose_8 21 rfl rfl)
theorem dX6_stonesToEnclose_212 : decode cX6_stonesToEnclose 212 = .ok (.goto 8, 3) := dk_167 0 8 (dk_at dksX6_stonesToEnclose_9 0 rfl rfl)
theorem dX6_stonesToEnclose_215 : decode cX6_stonesToEnclose 215 = .ok (.aload_n 0, 1) := dk_42 (dk_at dksX6_stonesToEnclose_9 3 rfl rfl)
theorem dX6_stonesToEnclose_216 : decode cX6_stonesToEnclose 216 = .ok (.iconst 2, 1) := dk_5 (dk_at dksX6_stonesToEnclose_9 4 rfl rfl)
theorem dX6_stonesToEnclose_217 : decode cX6_stonesToEnclose 217 = .ok (.invokevirtual 178, 3) := dk_182 0 178 (dk_at dksX6_stonesToEnclose_9 5 rfl rfl)
theorem dX6_stonesToEnclose_220 : decode cX6_stonesToEnclose 220 = .ok (.ireturn, 1) := dk_172 (dk_at dksX6_stonesToEnclose_9 8 rfl rfl)
abbrev cX6_isEnclosed : ByteArray := prog_14_method_45_code
def yX6_isEnclosed : MethodName := ⟨RX6, "isEnclosed", "(JI)Z"⟩
def dkwX6_isEnclosed_0 : List UInt8 := [42, 31, 29, 182, 0, 121, 42, 182, 0, 114, 127, 9, 148, 154, 0, 7, 4, 167, 0, 4, 3, 172]
abbrev dktX6_isEnclosed_0 : List UInt8 := dkwX6_isEnclosed_0 ++ []
theorem dksX6_isEnclosed_0 : cX6_isEnclosed.data.toList.drop 0 = dktX6_isEnclosed_0 := by decide +kernel
theorem dX6_isEnclosed_0 : decode cX6_isEnclosed 0 = .ok (.aload_n 0, 1) := dk_42 (dk_at dksX6_isEnclosed_0 0 rfl rfl)
theorem dX6_isEnclosed_1 : decode cX6_isEnclosed 1 = .ok (.lload_n 1, 1) := dk_31 (dk_at dksX6_isEnclosed_0 1 rfl rfl)
theorem dX6_isEnclosed_2 : decode cX6_isEnclosed 2 = .ok (.iload_n 3, 1) := dk_29 (dk_at dksX6_isEnclosed_0 2 rfl rfl)
theorem dX6_isEnclosed_3 : decode cX6_isEnclosed 3 = .ok (.invokevirtual 121, 3) := dk_182 0 121 (dk_at dksX6_isEnclosed_0 3 rfl rfl)
theorem dX6_isEnclosed_6 : decode cX6_isEnclosed 6 = .ok (.aload_n 0, 1) := dk_42 (dk_at dksX6_isEnclosed_0 6 rfl rfl)
theorem dX6_isEnclosed_7 : decode cX6_isEnclosed 7 = .ok (.invokevirtual 114, 3) := dk_182 0 114 (dk_at dksX6_isEnclosed_0 7 rfl rfl)
theorem dX6_isEnclosed_10 : decode cX6_isEnclosed 10 = .ok (.land, 1) := dk_127 (dk_at dksX6_isEnclosed_0 10 rfl rfl)
theorem dX6_isEnclosed_11 : decode cX6_isEnclosed 11 = .ok (.lconst 0, 1) := dk_9 (dk_at dksX6_isEnclosed_0 11 rfl rfl)
theorem dX6_isEnclosed_12 : decode cX6_isEnclosed 12 = .ok (.lcmp, 1) := dk_148 (dk_at dksX6_isEnclosed_0 12 rfl rfl)
theorem dX6_isEnclosed_13 : decode cX6_isEnclosed 13 = .ok (.ifCond .ne 7, 3) := dk_154 0 7 (dk_at dksX6_isEnclosed_0 13 rfl rfl)
theorem dX6_isEnclosed_16 : decode cX6_isEnclosed 16 = .ok (.iconst 1, 1) := dk_4 (dk_at dksX6_isEnclosed_0 16 rfl rfl)
theorem dX6_isEnclosed_17 : decode cX6_isEnclosed 17 = .ok (.goto 4, 3) := dk_167 0 4 (dk_at dksX6_isEnclosed_0 17 rfl rfl)
theorem dX6_isEnclosed_20 : decode cX6_isEnclosed 20 = .ok (.iconst 0, 1) := dk_3 (dk_at dksX6_isEnclosed_0 20 rfl rfl)
theorem dX6_isEnclosed_21 : decode cX6_isEnclosed 21 = .ok (.ireturn, 1) := dk_172 (dk_at dksX6_isEnclosed_0 21 rfl rfl)
abbrev cX6_share : ByteArray := prog_14_method_47_code
def yX6_share : MethodName := ⟨RX6, "share", "(I)D"⟩
def dkwX6_share_2 : List UInt8 := [182, 0, 76, 135, 111, 175]
abbrev dktX6_share_2 : List UInt8 := dkwX6_share_2 ++ []
def dkwX6_share_1 : List UInt8 := [160, 0, 7, 14, 167, 0, 25, 42, 4, 27, 96, 182, 0, 84, 42, 6, 27, 96, 182, 0, 84, 96, 135, 42]
abbrev dktX6_share_1 : List UInt8 := dkwX6_share_1 ++ dktX6_share_2
def dkwX6_share_0 : List UInt8 := [42, 27, 3, 4, 184, 0, 80, 153, 0, 7, 3, 167, 0, 4, 4, 181, 0, 73, 42, 180, 0, 73, 4]
abbrev dktX6_share_0 : List UInt8 := dkwX6_share_0 ++ dktX6_share_1
theorem dksX6_share_0 : cX6_share.data.toList.drop 0 = dktX6_share_0 := by decide +kernel
theorem dksX6_share_1 : cX6_share.data.toList.drop 23 = dktX6_share_1 := dk_seg dksX6_share_0 23 rfl rfl
theorem dksX6_share_2 : cX6_share.data.toList.drop 47 = dktX6_share_2 := dk_seg dksX6_share_1 24 rfl rfl
theorem dX6_share_0 : decode cX6_share 0 = .ok (.aload_n 0, 1) := dk_42 (dk_at dksX6_share_0 0 rfl rfl)
theorem dX6_share_1 : decode cX6_share 1 = .ok (.iload_n 1, 1) := dk_27 (dk_at dksX6_share_0 1 rfl rfl)
theorem dX6_share_2 : decode cX6_share 2 = .ok (.iconst 0, 1) := dk_3 (dk_at dksX6_share_0 2 rfl rfl)
theorem dX6_share_3 : decode cX6_share 3 = .ok (.iconst 1, 1) := dk_4 (dk_at dksX6_share_0 3 rfl rfl)
theorem dX6_share_4 : decode cX6_share 4 = .ok (.invokestatic 80, 3) := dk_184 0 80 (dk_at dksX6_share_0 4 rfl rfl)
theorem dX6_share_7 : decode cX6_share 7 = .ok (.ifCond .eq 7, 3) := dk_153 0 7 (dk_at dksX6_share_0 7 rfl rfl)
theorem dX6_share_10 : decode cX6_share 10 = .ok (.iconst 0, 1) := dk_3 (dk_at dksX6_share_0 10 rfl rfl)
theorem dX6_share_11 : decode cX6_share 11 = .ok (.goto 4, 3) := dk_167 0 4 (dk_at dksX6_share_0 11 rfl rfl)
theorem dX6_share_14 : decode cX6_share 14 = .ok (.iconst 1, 1) := dk_4 (dk_at dksX6_share_0 14 rfl rfl)
theorem dX6_share_15 : decode cX6_share 15 = .ok (.putfield 73, 3) := dk_181 0 73 (dk_at dksX6_share_0 15 rfl rfl)
theorem dX6_share_18 : decode cX6_share 18 = .ok (.aload_n 0, 1) := dk_42 (dk_at dksX6_share_0 18 rfl rfl)
theorem dX6_share_19 : decode cX6_share 19 = .ok (.getfield 73, 3) := dk_180 0 73 (dk_at dksX6_share_0 19 rfl rfl)
theorem dX6_share_22 : decode cX6_share 22 = .ok (.iconst 1, 1) := dk_4 (dk_at dksX6_share_0 22 rfl rfl)
theorem dX6_share_23 : decode cX6_share 23 = .ok (.if_icmp .ne 7, 3) := dk_160 0 7 (dk_at dksX6_share_1 0 rfl rfl)
theorem dX6_share_26 : decode cX6_share 26 = .ok (.dconst 0, 1) := dk_14 (dk_at dksX6_share_1 3 rfl rfl)
theorem dX6_share_27 : decode cX6_share 27 = .ok (.goto 25, 3) := dk_167 0 25 (dk_at dksX6_share_1 4 rfl rfl)
theorem dX6_share_30 : decode cX6_share 30 = .ok (.aload_n 0, 1) := dk_42 (dk_at dksX6_share_1 7 rfl rfl)
theorem dX6_share_31 : decode cX6_share 31 = .ok (.iconst 1, 1) := dk_4 (dk_at dksX6_share_1 8 rfl rfl)
theorem dX6_share_32 : decode cX6_share 32 = .ok (.iload_n 1, 1) := dk_27 (dk_at dksX6_share_1 9 rfl rfl)
theorem dX6_share_33 : decode cX6_share 33 = .ok (.iadd, 1) := dk_96 (dk_at dksX6_share_1 10 rfl rfl)
theorem dX6_share_34 : decode cX6_share 34 = .ok (.invokevirtual 84, 3) := dk_182 0 84 (dk_at dksX6_share_1 11 rfl rfl)
theorem dX6_share_37 : decode cX6_share 37 = .ok (.aload_n 0, 1) := dk_42 (dk_at dksX6_share_1 14 rfl rfl)
theorem dX6_share_38 : decode cX6_share 38 = .ok (.iconst 3, 1) := dk_6 (dk_at dksX6_share_1 15 rfl rfl)
theorem dX6_share_39 : decode cX6_share 39 = .ok (.iload_n 1, 1) := dk_27 (dk_at dksX6_share_1 16 rfl rfl)
theorem dX6_share_40 : decode cX6_share 40 = .ok (.iadd, 1) := dk_96 (dk_at dksX6_share_1 17 rfl rfl)
theorem dX6_share_41 : decode cX6_share 41 = .ok (.invokevirtual 84, 3) := dk_182 0 84 (dk_at dksX6_share_1 18 rfl rfl)
theorem dX6_share_44 : decode cX6_share 44 = .ok (.iadd, 1) := dk_96 (dk_at dksX6_share_1 21 rfl rfl)
theorem dX6_share_45 : decode cX6_share 45 = .ok (.i2d, 1) := dk_135 (dk_at dksX6_share_1 22 rfl rfl)
theorem dX6_share_46 : decode cX6_share 46 = .ok (.aload_n 0, 1) := dk_42 (dk_at dksX6_share_1 23 rfl rfl)
theorem dX6_share_47 : decode cX6_share 47 = .ok (.invokevirtual 76, 3) := dk_182 0 76 (dk_at dksX6_share_2 0 rfl rfl)
theorem dX6_share_50 : decode cX6_share 50 = .ok (.i2d, 1) := dk_135 (dk_at dksX6_share_2 3 rfl rfl)
theorem dX6_share_51 : decode cX6_share 51 = .ok (.ddiv, 1) := dk_111 (dk_at dksX6_share_2 4 rfl rfl)
theorem dX6_share_52 : decode cX6_share 52 = .ok (.dreturn, 1) := dk_175 (dk_at dksX6_share_2 5 rfl rfl)
abbrev cX6_round : ByteArray := prog_14_method_48_code
def yX6_round : MethodName := ⟨RX6, "round", "(II)I"⟩
def dkwX6_round_2 : List UInt8 := [42, 180, 0, 32, 16, 7, 27, 104, 28, 96, 46, 167, 0, 4, 3, 172]
abbrev dktX6_round_2 : List UInt8 := dkwX6_round_2 ++ []
def dkwX6_round_1 : List UInt8 := [3, 16, 6, 184, 0, 80, 154, 0, 7, 5, 167, 0, 4, 3, 181, 0, 73, 42, 180, 0, 73, 154, 0, 17]
abbrev dktX6_round_1 : List UInt8 := dkwX6_round_1 ++ dktX6_round_2
def dkwX6_round_0 : List UInt8 := [42, 27, 3, 42, 180, 0, 20, 17, 0, 153, 46, 4, 100, 184, 0, 80, 154, 0, 7, 4, 167, 0, 18, 28]
abbrev dktX6_round_0 : List UInt8 := dkwX6_round_0 ++ dktX6_round_1
theorem dksX6_round_0 : cX6_round.data.toList.drop 0 = dktX6_round_0 := by decide +kernel
theorem dksX6_round_1 : cX6_round.data.toList.drop 24 = dktX6_round_1 := dk_seg dksX6_round_0 24 rfl rfl
theorem dksX6_round_2 : cX6_round.data.toList.drop 48 = dktX6_round_2 := dk_seg dksX6_round_1 24 rfl rfl
theorem dX6_round_0 : decode cX6_round 0 = .ok (.aload_n 0, 1) := dk_42 (dk_at dksX6_round_0 0 rfl rfl)
theorem dX6_round_1 : decode cX6_round 1 = .ok (.iload_n 1, 1) := dk_27 (dk_at dksX6_round_0 1 rfl rfl)
theorem dX6_round_2 : decode cX6_round 2 = .ok (.iconst 0, 1) := dk_3 (dk_at dksX6_round_0 2 rfl rfl)
theorem dX6_round_3 : decode cX6_round 3 = .ok (.aload_n 0, 1) := dk_42 (dk_at dksX6_round_0 3 rfl rfl)
theorem dX6_round_4 : decode cX6_round 4 = .ok (.getfield 20, 3) := dk_180 0 20 (dk_at dksX6_round_0 4 rfl rfl)
theorem dX6_round_7 : decode cX6_round 7 = .ok (.sipush 153, 3) := dk_17 0 153 (dk_at dksX6_round_0 7 rfl rfl)
theorem dX6_round_10 : decode cX6_round 10 = .ok (.iaload, 1) := dk_46 (dk_at dksX6_round_0 10 rfl rfl)
theorem dX6_round_11 : decode cX6_round 11 = .ok (.iconst 1, 1) := dk_4 (dk_at dksX6_round_0 11 rfl rfl)
theorem dX6_round_12 : decode cX6_round 12 = .ok (.isub, 1) := dk_100 (dk_at dksX6_round_0 12 rfl rfl)
theorem dX6_round_13 : decode cX6_round 13 = .ok (.invokestatic 80, 3) := dk_184 0 80 (dk_at dksX6_round_0 13 rfl rfl)
theorem dX6_round_16 : decode cX6_round 16 = .ok (.ifCond .ne 7, 3) := dk_154 0 7 (dk_at dksX6_round_0 16 rfl rfl)
theorem dX6_round_19 : decode cX6_round 19 = .ok (.iconst 1, 1) := dk_4 (dk_at dksX6_round_0 19 rfl rfl)
theorem dX6_round_20 : decode cX6_round 20 = .ok (.goto 18, 3) := dk_167 0 18 (dk_at dksX6_round_0 20 rfl rfl)
theorem dX6_round_23 : decode cX6_round 23 = .ok (.iload_n 2, 1) := dk_28 (dk_at dksX6_round_0 23 rfl rfl)
theorem dX6_round_24 : decode cX6_round 24 = .ok (.iconst 0, 1) := dk_3 (dk_at dksX6_round_1 0 rfl rfl)
theorem dX6_round_25 : decode cX6_round 25 = .ok (.bipush 6, 2) := dk_16 6 (dk_at dksX6_round_1 1 rfl rfl)
theorem dX6_round_27 : decode cX6_round 27 = .ok (.invokestatic 80, 3) := dk_184 0 80 (dk_at dksX6_round_1 3 rfl rfl)
theorem dX6_round_30 : decode cX6_round 30 = .ok (.ifCond .ne 7, 3) := dk_154 0 7 (dk_at dksX6_round_1 6 rfl rfl)
theorem dX6_round_33 : decode cX6_round 33 = .ok (.iconst 2, 1) := dk_5 (dk_at dksX6_round_1 9 rfl rfl)
theorem dX6_round_34 : decode cX6_round 34 = .ok (.goto 4, 3) := dk_167 0 4 (dk_at dksX6_round_1 10 rfl rfl)
theorem dX6_round_37 : decode cX6_round 37 = .ok (.iconst 0, 1) := dk_3 (dk_at dksX6_round_1 13 rfl rfl)
theorem dX6_round_38 : decode cX6_round 38 = .ok (.putfield 73, 3) := dk_181 0 73 (dk_at dksX6_round_1 14 rfl rfl)
theorem dX6_round_41 : decode cX6_round 41 = .ok (.aload_n 0, 1) := dk_42 (dk_at dksX6_round_1 17 rfl rfl)
theorem dX6_round_42 : decode cX6_round 42 = .ok (.getfield 73, 3) := dk_180 0 73 (dk_at dksX6_round_1 18 rfl rfl)
theorem dX6_round_45 : decode cX6_round 45 = .ok (.ifCond .ne 17, 3) := dk_154 0 17 (dk_at dksX6_round_1 21 rfl rfl)
theorem dX6_round_48 : decode cX6_round 48 = .ok (.aload_n 0, 1) := dk_42 (dk_at dksX6_round_2 0 rfl rfl)
theorem dX6_round_49 : decode cX6_round 49 = .ok (.getfield 32, 3) := dk_180 0 32 (dk_at dksX6_round_2 1 rfl rfl)
theorem dX6_round_52 : decode cX6_round 52 = .ok (.bipush 7, 2) := dk_16 7 (dk_at dksX6_round_2 4 rfl rfl)
theorem dX6_round_54 : decode cX6_round 54 = .ok (.iload_n 1, 1) := dk_27 (dk_at dksX6_round_2 6 rfl rfl)
theorem dX6_round_55 : decode cX6_round 55 = .ok (.imul, 1) := dk_104 (dk_at dksX6_round_2 7 rfl rfl)
theorem dX6_round_56 : decode cX6_round 56 = .ok (.iload_n 2, 1) := dk_28 (dk_at dksX6_round_2 8 rfl rfl)
theorem dX6_round_57 : decode cX6_round 57 = .ok (.iadd, 1) := dk_96 (dk_at dksX6_round_2 9 rfl rfl)
theorem dX6_round_58 : decode cX6_round 58 = .ok (.iaload, 1) := dk_46 (dk_at dksX6_round_2 10 rfl rfl)
theorem dX6_round_59 : decode cX6_round 59 = .ok (.goto 4, 3) := dk_167 0 4 (dk_at dksX6_round_2 11 rfl rfl)
theorem dX6_round_62 : decode cX6_round 62 = .ok (.iconst 0, 1) := dk_3 (dk_at dksX6_round_2 14 rfl rfl)
theorem dX6_round_63 : decode cX6_round 63 = .ok (.ireturn, 1) := dk_172 (dk_at dksX6_round_2 15 rfl rfl)
abbrev cX6_turningPoint : ByteArray := prog_14_method_49_code
def yX6_turningPoint : MethodName := ⟨RX6, "turningPoint", "()I"⟩
def dkwX6_turningPoint_5 : List UInt8 := [132, 4, 1, 167, 255, 178, 27, 172]
abbrev dktX6_turningPoint_5 : List UInt8 := dkwX6_turningPoint_5 ++ []
def dkwX6_turningPoint_4 : List UInt8 := [167, 0, 7, 29, 21, 5, 100, 54, 6, 21, 6, 28, 164, 0, 9, 21, 4, 60, 21, 6, 61, 21, 5, 62]
abbrev dktX6_turningPoint_4 : List UInt8 := dkwX6_turningPoint_4 ++ dktX6_turningPoint_5
def dkwX6_turningPoint_3 : List UInt8 := [16, 7, 21, 4, 104, 16, 6, 96, 46, 100, 54, 5, 21, 5, 29, 164, 0, 10, 21, 5, 29, 100]
abbrev dktX6_turningPoint_3 : List UInt8 := dkwX6_turningPoint_3 ++ dktX6_turningPoint_4
def dkwX6_turningPoint_2 : List UInt8 := [17, 0, 153, 46, 162, 0, 71, 42, 180, 0, 32, 16, 7, 21, 4, 104, 8, 96, 46, 42, 180, 0, 32]
abbrev dktX6_turningPoint_2 : List UInt8 := dkwX6_turningPoint_2 ++ dktX6_turningPoint_3
def dkwX6_turningPoint_1 : List UInt8 := [42, 180, 0, 16, 3, 46, 42, 180, 0, 16, 4, 46, 100, 62, 3, 54, 4, 21, 4, 42, 180, 0, 20]
abbrev dktX6_turningPoint_1 : List UInt8 := dkwX6_turningPoint_1 ++ dktX6_turningPoint_2
def dkwX6_turningPoint_0 : List UInt8 := [42, 42, 180, 0, 20, 17, 0, 153, 46, 154, 0, 7, 4, 167, 0, 4, 3, 181, 0, 73, 3, 60, 2, 61]
abbrev dktX6_turningPoint_0 : List UInt8 := dkwX6_turningPoint_0 ++ dktX6_turningPoint_1
theorem dksX6_turningPoint_0 : cX6_turningPoint.data.toList.drop 0 = dktX6_turningPoint_0 := by decide +kernel
theorem dksX6_turningPoint_1 : cX6_turningPoint.data.toList.drop 24 = dktX6_turningPoint_1 := dk_seg dksX6_turningPoint_0 24 rfl rfl
theorem dksX6_turningPoint_2 : cX6_turningPoint.data.toList.drop 47 = dktX6_turningPoint_2 := dk_seg dksX6_turningPoint_1 23 rfl rfl
theorem dksX6_turningPoint_3 : cX6_turningPoint.data.toList.drop 70 = dktX6_turningPoint_3 := dk_seg dksX6_turningPoint_2 23 rfl rfl
theorem dksX6_turningPoint_4 : cX6_turningPoint.data.toList.drop 92 = dktX6_turningPoint_4 := dk_seg dksX6_turningPoint_3 22 rfl rfl
theorem dksX6_turningPoint_5 : cX6_turningPoint.data.toList.drop 116 = dktX6_turningPoint_5 := dk_seg dksX6_turningPoint_4 24 rfl rfl
theorem dX6_turningPoint_0 : decode cX6_turningPoint 0 = .ok (.aload_n 0, 1) := dk_42 (dk_at dksX6_turningPoint_0 0 rfl rfl)
theorem dX6_turningPoint_1 : decode cX6_turningPoint 1 = .ok (.aload_n 0, 1) := dk_42 (dk_at dksX6_turningPoint_0 1 rfl rfl)
theorem dX6_turningPoint_2 : decode cX6_turningPoint 2 = .ok (.getfield 20, 3) := dk_180 0 20 (dk_at dksX6_turningPoint_0 2 rfl rfl)
theorem dX6_turningPoint_5 : decode cX6_turningPoint 5 = .ok (.sipush 153, 3) := dk_17 0 153 (dk_at dksX6_turningPoint_0 5 rfl rfl)
theorem dX6_turningPoint_8 : decode cX6_turningPoint 8 = .ok (.iaload, 1) := dk_46 (dk_at dksX6_turningPoint_0 8 rfl rfl)
theorem dX6_turningPoint_9 : decode cX6_turningPoint 9 = .ok (.ifCond .ne 7, 3) := dk_154 0 7 (dk_at dksX6_turningPoint_0 9 rfl rfl)
theorem dX6_turningPoint_12 : decode cX6_turningPoint 12 = .ok (.iconst 1, 1) := dk_4 (dk_at dksX6_turningPoint_0 12 rfl rfl)
theorem dX6_turningPoint_13 : decode cX6_turningPoint 13 = .ok (.goto 4, 3) := dk_167 0 4 (dk_at dksX6_turningPoint_0 13 rfl rfl)
theorem dX6_turningPoint_16 : decode cX6_turningPoint 16 = .ok (.iconst 0, 1) := dk_3 (dk_at dksX6_turningPoint_0 16 rfl rfl)
theorem dX6_turningPoint_17 : decode cX6_turningPoint 17 = .ok (.putfield 73, 3) := dk_181 0 73 (dk_at dksX6_turningPoint_0 17 rfl rfl)
theorem dX6_turningPoint_20 : decode cX6_turningPoint 20 = .ok (.iconst 0, 1) := dk_3 (dk_at dksX6_turningPoint_0 20 rfl rfl)
theorem dX6_turningPoint_21 : decode cX6_turningPoint 21 = .ok (.istore_n 1, 1) := dk_60 (dk_at dksX6_turningPoint_0 21 rfl rfl)
theorem dX6_turningPoint_22 : decode cX6_turningPoint 22 = .ok (.iconst (-1), 1) := dk_2 (dk_at dksX6_turningPoint_0 22 rfl rfl)
theorem dX6_turningPoint_23 : decode cX6_turningPoint 23 = .ok (.istore_n 2, 1) := dk_61 (dk_at dksX6_turningPoint_0 23 rfl rfl)
theorem dX6_turningPoint_24 : decode cX6_turningPoint 24 = .ok (.aload_n 0, 1) := dk_42 (dk_at dksX6_turningPoint_1 0 rfl rfl)
theorem dX6_turningPoint_25 : decode cX6_turningPoint 25 = .ok (.getfield 16, 3) := dk_180 0 16 (dk_at dksX6_turningPoint_1 1 rfl rfl)
theorem dX6_turningPoint_28 : decode cX6_turningPoint 28 = .ok (.iconst 0, 1) := dk_3 (dk_at dksX6_turningPoint_1 4 rfl rfl)
theorem dX6_turningPoint_29 : decode cX6_turningPoint 29 = .ok (.iaload, 1) := dk_46 (dk_at dksX6_turningPoint_1 5 rfl rfl)
theorem dX6_turningPoint_30 : decode cX6_turningPoint 30 = .ok (.aload_n 0, 1) := dk_42 (dk_at dksX6_turningPoint_1 6 rfl rfl)
theorem dX6_turningPoint_31 : decode cX6_turningPoint 31 = .ok (.getfield 16, 3) := dk_180 0 16 (dk_at dksX6_turningPoint_1 7 rfl rfl)
theorem dX6_turningPoint_34 : decode cX6_turningPoint 34 = .ok (.iconst 1, 1) := dk_4 (dk_at dksX6_turningPoint_1 10 rfl rfl)
theorem dX6_turningPoint_35 : decode cX6_turningPoint 35 = .ok (.iaload, 1) := dk_46 (dk_at dksX6_turningPoint_1 11 rfl rfl)
theorem dX6_turningPoint_36 : decode cX6_turningPoint 36 = .ok (.isub, 1) := dk_100 (dk_at dksX6_turningPoint_1 12 rfl rfl)
theorem dX6_turningPoint_37 : decode cX6_turningPoint 37 = .ok (.istore_n 3, 1) := dk_62 (dk_at dksX6_turningPoint_1 13 rfl rfl)
theorem dX6_turningPoint_38 : decode cX6_turningPoint 38 = .ok (.iconst 0, 1) := dk_3 (dk_at dksX6_turningPoint_1 14 rfl rfl)
theorem dX6_turningPoint_39 : decode cX6_turningPoint 39 = .ok (.istore 4, 2) := dk_54 4 (dk_at dksX6_turningPoint_1 15 rfl rfl)
theorem dX6_turningPoint_41 : decode cX6_turningPoint 41 = .ok (.iload 4, 2) := dk_21 4 (dk_at dksX6_turningPoint_1 17 rfl rfl)
theorem dX6_turningPoint_43 : decode cX6_turningPoint 43 = .ok (.aload_n 0, 1) := dk_42 (dk_at dksX6_turningPoint_1 19 rfl rfl)
theorem dX6_turningPoint_44 : decode cX6_turningPoint 44 = .ok (.getfield 20, 3) := dk_180 0 20 (dk_at dksX6_turningPoint_1 20 rfl rfl)
theorem dX6_turningPoint_47 : decode cX6_turningPoint 47 = .ok (.sipush 153, 3) := dk_17 0 153 (dk_at dksX6_turningPoint_2 0 rfl rfl)
theorem dX6_turningPoint_50 : decode cX6_turningPoint 50 = .ok (.iaload, 1) := dk_46 (dk_at dksX6_turningPoint_2 3 rfl rfl)
theorem dX6_turningPoint_51 : decode cX6_turningPoint 51 = .ok (.if_icmp .ge 71, 3) := dk_162 0 71 (dk_at dksX6_turningPoint_2 4 rfl rfl)
theorem dX6_turningPoint_54 : decode cX6_turningPoint 54 = .ok (.aload_n 0, 1) := dk_42 (dk_at dksX6_turningPoint_2 7 rfl rfl)
theorem dX6_turningPoint_55 : decode cX6_turningPoint 55 = .ok (.getfield 32, 3) := dk_180 0 32 (dk_at dksX6_turningPoint_2 8 rfl rfl)
theorem dX6_turningPoint_58 : decode cX6_turningPoint 58 = .ok (.bipush 7, 2) := dk_16 7 (dk_at dksX6_turningPoint_2 11 rfl rfl)
theorem dX6_turningPoint_60 : decode cX6_turningPoint 60 = .ok (.iload 4, 2) := dk_21 4 (dk_at dksX6_turningPoint_2 13 rfl rfl)
theorem dX6_turningPoint_62 : decode cX6_turningPoint 62 = .ok (.imul, 1) := dk_104 (dk_at dksX6_turningPoint_2 15 rfl rfl)
theorem dX6_turningPoint_63 : decode cX6_turningPoint 63 = .ok (.iconst 5, 1) := dk_8 (dk_at dksX6_turningPoint_2 16 rfl rfl)
theorem dX6_turningPoint_64 : decode cX6_turningPoint 64 = .ok (.iadd, 1) := dk_96 (dk_at dksX6_turningPoint_2 17 rfl rfl)
theorem dX6_turningPoint_65 : decode cX6_turningPoint 65 = .ok (.iaload, 1) := dk_46 (dk_at dksX6_turningPoint_2 18 rfl rfl)
theorem dX6_turningPoint_66 : decode cX6_turningPoint 66 = .ok (.aload_n 0, 1) := dk_42 (dk_at dksX6_turningPoint_2 19 rfl rfl)
theorem dX6_turningPoint_67 : decode cX6_turningPoint 67 = .ok (.getfield 32, 3) := dk_180 0 32 (dk_at dksX6_turningPoint_2 20 rfl rfl)
theorem dX6_turningPoint_70 : decode cX6_turningPoint 70 = .ok (.bipush 7, 2) := dk_16 7 (dk_at dksX6_turningPoint_3 0 rfl rfl)
theorem dX6_turningPoint_72 : decode cX6_turningPoint 72 = .ok (.iload 4, 2) := dk_21 4 (dk_at dksX6_turningPoint_3 2 rfl rfl)
theorem dX6_turningPoint_74 : decode cX6_turningPoint 74 = .ok (.imul, 1) := dk_104 (dk_at dksX6_turningPoint_3 4 rfl rfl)
theorem dX6_turningPoint_75 : decode cX6_turningPoint 75 = .ok (.bipush 6, 2) := dk_16 6 (dk_at dksX6_turningPoint_3 5 rfl rfl)
theorem dX6_turningPoint_77 : decode cX6_turningPoint 77 = .ok (.iadd, 1) := dk_96 (dk_at dksX6_turningPoint_3 7 rfl rfl)
theorem dX6_turningPoint_78 : decode cX6_turningPoint 78 = .ok (.iaload, 1) := dk_46 (dk_at dksX6_turningPoint_3 8 rfl rfl)
theorem dX6_turningPoint_79 : decode cX6_turningPoint 79 = .ok (.isub, 1) := dk_100 (dk_at dksX6_turningPoint_3 9 rfl rfl)
theorem dX6_turningPoint_80 : decode cX6_turningPoint 80 = .ok (.istore 5, 2) := dk_54 5 (dk_at dksX6_turningPoint_3 10 rfl rfl)
theorem dX6_turningPoint_82 : decode cX6_turningPoint 82 = .ok (.iload 5, 2) := dk_21 5 (dk_at dksX6_turningPoint_3 12 rfl rfl)
theorem dX6_turningPoint_84 : decode cX6_turningPoint 84 = .ok (.iload_n 3, 1) := dk_29 (dk_at dksX6_turningPoint_3 14 rfl rfl)
theorem dX6_turningPoint_85 : decode cX6_turningPoint 85 = .ok (.if_icmp .le 10, 3) := dk_164 0 10 (dk_at dksX6_turningPoint_3 15 rfl rfl)
theorem dX6_turningPoint_88 : decode cX6_turningPoint 88 = .ok (.iload 5, 2) := dk_21 5 (dk_at dksX6_turningPoint_3 18 rfl rfl)
theorem dX6_turningPoint_90 : decode cX6_turningPoint 90 = .ok (.iload_n 3, 1) := dk_29 (dk_at dksX6_turningPoint_3 20 rfl rfl)
theorem dX6_turningPoint_91 : decode cX6_turningPoint 91 = .ok (.isub, 1) := dk_100 (dk_at dksX6_turningPoint_3 21 rfl rfl)
theorem dX6_turningPoint_92 : decode cX6_turningPoint 92 = .ok (.goto 7, 3) := dk_167 0 7 (dk_at dksX6_turningPoint_4 0 rfl rfl)
theorem dX6_turningPoint_95 : decode cX6_turningPoint 95 = .ok (.iload_n 3, 1) := dk_29 (dk_at dksX6_turningPoint_4 3 rfl rfl)
theorem dX6_turningPoint_96 : decode cX6_turningPoint 96 = .ok (.iload 5, 2) := dk_21 5 (dk_at dksX6_turningPoint_4 4 rfl rfl)
theorem dX6_turningPoint_98 : decode cX6_turningPoint 98 = .ok (.isub, 1) := dk_100 (dk_at dksX6_turningPoint_4 6 rfl rfl)
theorem dX6_turningPoint_99 : decode cX6_turningPoint 99 = .ok (.istore 6, 2) := dk_54 6 (dk_at dksX6_turningPoint_4 7 rfl rfl)
theorem dX6_turningPoint_101 : decode cX6_turningPoint 101 = .ok (.iload 6, 2) := dk_21 6 (dk_at dksX6_turningPoint_4 9 rfl rfl)
theorem dX6_turningPoint_103 : decode cX6_turningPoint 103 = .ok (.iload_n 2, 1) := dk_28 (dk_at dksX6_turningPoint_4 11 rfl rfl)
theorem dX6_turningPoint_104 : decode cX6_turningPoint 104 = .ok (.if_icmp .le 9, 3) := dk_164 0 9 (dk_at dksX6_turningPoint_4 12 rfl rfl)
theorem dX6_turningPoint_107 : decode cX6_turningPoint 107 = .ok (.iload 4, 2) := dk_21 4 (dk_at dksX6_turningPoint_4 15 rfl rfl)
theorem dX6_turningPoint_109 : decode cX6_turningPoint 109 = .ok (.istore_n 1, 1) := dk_60 (dk_at dksX6_turningPoint_4 17 rfl rfl)
theorem dX6_turningPoint_110 : decode cX6_turningPoint 110 = .ok (.iload 6, 2) := dk_21 6 (dk_at dksX6_turningPoint_4 18 rfl rfl)
theorem dX6_turningPoint_112 : decode cX6_turningPoint 112 = .ok (.istore_n 2, 1) := dk_61 (dk_at dksX6_turningPoint_4 20 rfl rfl)
theorem dX6_turningPoint_113 : decode cX6_turningPoint 113 = .ok (.iload 5, 2) := dk_21 5 (dk_at dksX6_turningPoint_4 21 rfl rfl)
theorem dX6_turningPoint_115 : decode cX6_turningPoint 115 = .ok (.istore_n 3, 1) := dk_62 (dk_at dksX6_turningPoint_4 23 rfl rfl)
theorem dX6_turningPoint_116 : decode cX6_turningPoint 116 = .ok (.iinc 4 1, 3) := dk_132 4 1 (dk_at dksX6_turningPoint_5 0 rfl rfl)
theorem dX6_turningPoint_119 : decode cX6_turningPoint 119 = .ok (.goto (-78), 3) := dk_167 255 178 (dk_at dksX6_turningPoint_5 3 rfl rfl)
theorem dX6_turningPoint_122 : decode cX6_turningPoint 122 = .ok (.iload_n 1, 1) := dk_27 (dk_at dksX6_turningPoint_5 6 rfl rfl)
theorem dX6_turningPoint_123 : decode cX6_turningPoint 123 = .ok (.ireturn, 1) := dk_172 (dk_at dksX6_turningPoint_5 7 rfl rfl)
abbrev cX6_guarantee : ByteArray := prog_14_method_56_code
def yX6_guarantee : MethodName := ⟨RX6, "guarantee", "(III)I"⟩
def dkwX6_guarantee_3 : List UInt8 := [181, 0, 73, 42, 180, 0, 73, 154, 0, 13, 42, 27, 28, 29, 182, 0, 216, 167, 0, 4, 3, 172]
abbrev dktX6_guarantee_3 : List UInt8 := dkwX6_guarantee_3 ++ []
def dkwX6_guarantee_2 : List UInt8 := [153, 0, 17, 29, 5, 160, 0, 16, 42, 182, 0, 108, 16, 6, 164, 0, 7, 6, 167, 0, 4, 3]
abbrev dktX6_guarantee_2 : List UInt8 := dkwX6_guarantee_2 ++ dktX6_guarantee_3
def dkwX6_guarantee_1 : List UInt8 := [5, 184, 0, 80, 154, 0, 7, 5, 167, 0, 37, 42, 182, 0, 170, 154, 0, 25, 42, 28, 182, 0, 157]
abbrev dktX6_guarantee_1 : List UInt8 := dkwX6_guarantee_1 ++ dktX6_guarantee_2
def dkwX6_guarantee_0 : List UInt8 := [42, 27, 3, 4, 184, 0, 80, 153, 0, 11, 42, 28, 182, 0, 167, 154, 0, 7, 4, 167, 0, 50, 29, 4]
abbrev dktX6_guarantee_0 : List UInt8 := dkwX6_guarantee_0 ++ dktX6_guarantee_1
theorem dksX6_guarantee_0 : cX6_guarantee.data.toList.drop 0 = dktX6_guarantee_0 := by decide +kernel
theorem dksX6_guarantee_1 : cX6_guarantee.data.toList.drop 24 = dktX6_guarantee_1 := dk_seg dksX6_guarantee_0 24 rfl rfl
theorem dksX6_guarantee_2 : cX6_guarantee.data.toList.drop 47 = dktX6_guarantee_2 := dk_seg dksX6_guarantee_1 23 rfl rfl
theorem dksX6_guarantee_3 : cX6_guarantee.data.toList.drop 69 = dktX6_guarantee_3 := dk_seg dksX6_guarantee_2 22 rfl rfl
theorem dX6_guarantee_0 : decode cX6_guarantee 0 = .ok (.aload_n 0, 1) := dk_42 (dk_at dksX6_guarantee_0 0 rfl rfl)
theorem dX6_guarantee_1 : decode cX6_guarantee 1 = .ok (.iload_n 1, 1) := dk_27 (dk_at dksX6_guarantee_0 1 rfl rfl)
theorem dX6_guarantee_2 : decode cX6_guarantee 2 = .ok (.iconst 0, 1) := dk_3 (dk_at dksX6_guarantee_0 2 rfl rfl)
theorem dX6_guarantee_3 : decode cX6_guarantee 3 = .ok (.iconst 1, 1) := dk_4 (dk_at dksX6_guarantee_0 3 rfl rfl)
theorem dX6_guarantee_4 : decode cX6_guarantee 4 = .ok (.invokestatic 80, 3) := dk_184 0 80 (dk_at dksX6_guarantee_0 4 rfl rfl)
theorem dX6_guarantee_7 : decode cX6_guarantee 7 = .ok (.ifCond .eq 11, 3) := dk_153 0 11 (dk_at dksX6_guarantee_0 7 rfl rfl)
theorem dX6_guarantee_10 : decode cX6_guarantee 10 = .ok (.aload_n 0, 1) := dk_42 (dk_at dksX6_guarantee_0 10 rfl rfl)
theorem dX6_guarantee_11 : decode cX6_guarantee 11 = .ok (.iload_n 2, 1) := dk_28 (dk_at dksX6_guarantee_0 11 rfl rfl)
theorem dX6_guarantee_12 : decode cX6_guarantee 12 = .ok (.invokevirtual 167, 3) := dk_182 0 167 (dk_at dksX6_guarantee_0 12 rfl rfl)
theorem dX6_guarantee_15 : decode cX6_guarantee 15 = .ok (.ifCond .ne 7, 3) := dk_154 0 7 (dk_at dksX6_guarantee_0 15 rfl rfl)
theorem dX6_guarantee_18 : decode cX6_guarantee 18 = .ok (.iconst 1, 1) := dk_4 (dk_at dksX6_guarantee_0 18 rfl rfl)
theorem dX6_guarantee_19 : decode cX6_guarantee 19 = .ok (.goto 50, 3) := dk_167 0 50 (dk_at dksX6_guarantee_0 19 rfl rfl)
theorem dX6_guarantee_22 : decode cX6_guarantee 22 = .ok (.iload_n 3, 1) := dk_29 (dk_at dksX6_guarantee_0 22 rfl rfl)
theorem dX6_guarantee_23 : decode cX6_guarantee 23 = .ok (.iconst 1, 1) := dk_4 (dk_at dksX6_guarantee_0 23 rfl rfl)
theorem dX6_guarantee_24 : decode cX6_guarantee 24 = .ok (.iconst 2, 1) := dk_5 (dk_at dksX6_guarantee_1 0 rfl rfl)
theorem dX6_guarantee_25 : decode cX6_guarantee 25 = .ok (.invokestatic 80, 3) := dk_184 0 80 (dk_at dksX6_guarantee_1 1 rfl rfl)
theorem dX6_guarantee_28 : decode cX6_guarantee 28 = .ok (.ifCond .ne 7, 3) := dk_154 0 7 (dk_at dksX6_guarantee_1 4 rfl rfl)
theorem dX6_guarantee_31 : decode cX6_guarantee 31 = .ok (.iconst 2, 1) := dk_5 (dk_at dksX6_guarantee_1 7 rfl rfl)
theorem dX6_guarantee_32 : decode cX6_guarantee 32 = .ok (.goto 37, 3) := dk_167 0 37 (dk_at dksX6_guarantee_1 8 rfl rfl)
theorem dX6_guarantee_35 : decode cX6_guarantee 35 = .ok (.aload_n 0, 1) := dk_42 (dk_at dksX6_guarantee_1 11 rfl rfl)
theorem dX6_guarantee_36 : decode cX6_guarantee 36 = .ok (.invokevirtual 170, 3) := dk_182 0 170 (dk_at dksX6_guarantee_1 12 rfl rfl)
theorem dX6_guarantee_39 : decode cX6_guarantee 39 = .ok (.ifCond .ne 25, 3) := dk_154 0 25 (dk_at dksX6_guarantee_1 15 rfl rfl)
theorem dX6_guarantee_42 : decode cX6_guarantee 42 = .ok (.aload_n 0, 1) := dk_42 (dk_at dksX6_guarantee_1 18 rfl rfl)
theorem dX6_guarantee_43 : decode cX6_guarantee 43 = .ok (.iload_n 2, 1) := dk_28 (dk_at dksX6_guarantee_1 19 rfl rfl)
theorem dX6_guarantee_44 : decode cX6_guarantee 44 = .ok (.invokevirtual 157, 3) := dk_182 0 157 (dk_at dksX6_guarantee_1 20 rfl rfl)
theorem dX6_guarantee_47 : decode cX6_guarantee 47 = .ok (.ifCond .eq 17, 3) := dk_153 0 17 (dk_at dksX6_guarantee_2 0 rfl rfl)
theorem dX6_guarantee_50 : decode cX6_guarantee 50 = .ok (.iload_n 3, 1) := dk_29 (dk_at dksX6_guarantee_2 3 rfl rfl)
theorem dX6_guarantee_51 : decode cX6_guarantee 51 = .ok (.iconst 2, 1) := dk_5 (dk_at dksX6_guarantee_2 4 rfl rfl)
theorem dX6_guarantee_52 : decode cX6_guarantee 52 = .ok (.if_icmp .ne 16, 3) := dk_160 0 16 (dk_at dksX6_guarantee_2 5 rfl rfl)
theorem dX6_guarantee_55 : decode cX6_guarantee 55 = .ok (.aload_n 0, 1) := dk_42 (dk_at dksX6_guarantee_2 8 rfl rfl)
theorem dX6_guarantee_56 : decode cX6_guarantee 56 = .ok (.invokevirtual 108, 3) := dk_182 0 108 (dk_at dksX6_guarantee_2 9 rfl rfl)
theorem dX6_guarantee_59 : decode cX6_guarantee 59 = .ok (.bipush 6, 2) := dk_16 6 (dk_at dksX6_guarantee_2 12 rfl rfl)
theorem dX6_guarantee_61 : decode cX6_guarantee 61 = .ok (.if_icmp .le 7, 3) := dk_164 0 7 (dk_at dksX6_guarantee_2 14 rfl rfl)
theorem dX6_guarantee_64 : decode cX6_guarantee 64 = .ok (.iconst 3, 1) := dk_6 (dk_at dksX6_guarantee_2 17 rfl rfl)
theorem dX6_guarantee_65 : decode cX6_guarantee 65 = .ok (.goto 4, 3) := dk_167 0 4 (dk_at dksX6_guarantee_2 18 rfl rfl)
theorem dX6_guarantee_68 : decode cX6_guarantee 68 = .ok (.iconst 0, 1) := dk_3 (dk_at dksX6_guarantee_2 21 rfl rfl)
theorem dX6_guarantee_69 : decode cX6_guarantee 69 = .ok (.putfield 73, 3) := dk_181 0 73 (dk_at dksX6_guarantee_3 0 rfl rfl)
theorem dX6_guarantee_72 : decode cX6_guarantee 72 = .ok (.aload_n 0, 1) := dk_42 (dk_at dksX6_guarantee_3 3 rfl rfl)
theorem dX6_guarantee_73 : decode cX6_guarantee 73 = .ok (.getfield 73, 3) := dk_180 0 73 (dk_at dksX6_guarantee_3 4 rfl rfl)
theorem dX6_guarantee_76 : decode cX6_guarantee 76 = .ok (.ifCond .ne 13, 3) := dk_154 0 13 (dk_at dksX6_guarantee_3 7 rfl rfl)
theorem dX6_guarantee_79 : decode cX6_guarantee 79 = .ok (.aload_n 0, 1) := dk_42 (dk_at dksX6_guarantee_3 10 rfl rfl)
theorem dX6_guarantee_80 : decode cX6_guarantee 80 = .ok (.iload_n 1, 1) := dk_27 (dk_at dksX6_guarantee_3 11 rfl rfl)
theorem dX6_guarantee_81 : decode cX6_guarantee 81 = .ok (.iload_n 2, 1) := dk_28 (dk_at dksX6_guarantee_3 12 rfl rfl)
theorem dX6_guarantee_82 : decode cX6_guarantee 82 = .ok (.iload_n 3, 1) := dk_29 (dk_at dksX6_guarantee_3 13 rfl rfl)
theorem dX6_guarantee_83 : decode cX6_guarantee 83 = .ok (.invokevirtual 216, 3) := dk_182 0 216 (dk_at dksX6_guarantee_3 14 rfl rfl)
theorem dX6_guarantee_86 : decode cX6_guarantee 86 = .ok (.goto 4, 3) := dk_167 0 4 (dk_at dksX6_guarantee_3 17 rfl rfl)
theorem dX6_guarantee_89 : decode cX6_guarantee 89 = .ok (.iconst 0, 1) := dk_3 (dk_at dksX6_guarantee_3 20 rfl rfl)
theorem dX6_guarantee_90 : decode cX6_guarantee 90 = .ok (.ireturn, 1) := dk_172 (dk_at dksX6_guarantee_3 21 rfl rfl)
abbrev cX6_guaranteed : ByteArray := prog_14_method_55_code
def yX6_guaranteed : MethodName := ⟨RX6, "guaranteed", "(III)I"⟩
def dkwX6_guaranteed_0 : List UInt8 := [29, 4, 160, 0, 12, 42, 27, 28, 182, 0, 206, 167, 0, 9, 42, 27, 28, 182, 0, 213, 172]
abbrev dktX6_guaranteed_0 : List UInt8 := dkwX6_guaranteed_0 ++ []
theorem dksX6_guaranteed_0 : cX6_guaranteed.data.toList.drop 0 = dktX6_guaranteed_0 := by decide +kernel
theorem dX6_guaranteed_0 : decode cX6_guaranteed 0 = .ok (.iload_n 3, 1) := dk_29 (dk_at dksX6_guaranteed_0 0 rfl rfl)
theorem dX6_guaranteed_1 : decode cX6_guaranteed 1 = .ok (.iconst 1, 1) := dk_4 (dk_at dksX6_guaranteed_0 1 rfl rfl)
theorem dX6_guaranteed_2 : decode cX6_guaranteed 2 = .ok (.if_icmp .ne 12, 3) := dk_160 0 12 (dk_at dksX6_guaranteed_0 2 rfl rfl)
theorem dX6_guaranteed_5 : decode cX6_guaranteed 5 = .ok (.aload_n 0, 1) := dk_42 (dk_at dksX6_guaranteed_0 5 rfl rfl)
theorem dX6_guaranteed_6 : decode cX6_guaranteed 6 = .ok (.iload_n 1, 1) := dk_27 (dk_at dksX6_guaranteed_0 6 rfl rfl)
theorem dX6_guaranteed_7 : decode cX6_guaranteed 7 = .ok (.iload_n 2, 1) := dk_28 (dk_at dksX6_guaranteed_0 7 rfl rfl)
theorem dX6_guaranteed_8 : decode cX6_guaranteed 8 = .ok (.invokevirtual 206, 3) := dk_182 0 206 (dk_at dksX6_guaranteed_0 8 rfl rfl)
theorem dX6_guaranteed_11 : decode cX6_guaranteed 11 = .ok (.goto 9, 3) := dk_167 0 9 (dk_at dksX6_guaranteed_0 11 rfl rfl)
theorem dX6_guaranteed_14 : decode cX6_guaranteed 14 = .ok (.aload_n 0, 1) := dk_42 (dk_at dksX6_guaranteed_0 14 rfl rfl)
theorem dX6_guaranteed_15 : decode cX6_guaranteed 15 = .ok (.iload_n 1, 1) := dk_27 (dk_at dksX6_guaranteed_0 15 rfl rfl)
theorem dX6_guaranteed_16 : decode cX6_guaranteed 16 = .ok (.iload_n 2, 1) := dk_28 (dk_at dksX6_guaranteed_0 16 rfl rfl)
theorem dX6_guaranteed_17 : decode cX6_guaranteed 17 = .ok (.invokevirtual 213, 3) := dk_182 0 213 (dk_at dksX6_guaranteed_0 17 rfl rfl)
theorem dX6_guaranteed_20 : decode cX6_guaranteed 20 = .ok (.ireturn, 1) := dk_172 (dk_at dksX6_guaranteed_0 20 rfl rfl)
abbrev cX6_near : ByteArray := prog_14_method_52_code
def yX6_near : MethodName := ⟨RX6, "near", "(II)I"⟩
def dkwX6_near_3 : List UInt8 := [180, 0, 26, 42, 180, 0, 20, 17, 0, 155, 184, 0, 192, 132, 4, 1, 167, 255, 190, 29, 172]
abbrev dktX6_near_3 : List UInt8 := dkwX6_near_3 ++ []
def dkwX6_near_2 : List UInt8 := [182, 0, 199, 42, 27, 182, 0, 202, 54, 5, 21, 5, 29, 162, 0, 8, 21, 5, 167, 0, 4, 29, 62, 42]
abbrev dktX6_near_2 : List UInt8 := dkwX6_near_2 ++ dktX6_near_3
def dkwX6_near_1 : List UInt8 := [182, 0, 76, 162, 0, 63, 42, 21, 4, 182, 0, 157, 154, 0, 6, 167, 0, 45, 42, 27, 28, 21, 4]
abbrev dktX6_near_1 : List UInt8 := dkwX6_near_1 ++ dktX6_near_2
def dkwX6_near_0 : List UInt8 := [42, 180, 0, 20, 42, 180, 0, 26, 17, 0, 155, 184, 0, 192, 18, 198, 62, 2, 54, 4, 21, 4, 42]
abbrev dktX6_near_0 : List UInt8 := dkwX6_near_0 ++ dktX6_near_1
theorem dksX6_near_0 : cX6_near.data.toList.drop 0 = dktX6_near_0 := by decide +kernel
theorem dksX6_near_1 : cX6_near.data.toList.drop 23 = dktX6_near_1 := dk_seg dksX6_near_0 23 rfl rfl
theorem dksX6_near_2 : cX6_near.data.toList.drop 46 = dktX6_near_2 := dk_seg dksX6_near_1 23 rfl rfl
theorem dksX6_near_3 : cX6_near.data.toList.drop 70 = dktX6_near_3 := dk_seg dksX6_near_2 24 rfl rfl
theorem dX6_near_0 : decode cX6_near 0 = .ok (.aload_n 0, 1) := dk_42 (dk_at dksX6_near_0 0 rfl rfl)
theorem dX6_near_1 : decode cX6_near 1 = .ok (.getfield 20, 3) := dk_180 0 20 (dk_at dksX6_near_0 1 rfl rfl)
theorem dX6_near_4 : decode cX6_near 4 = .ok (.aload_n 0, 1) := dk_42 (dk_at dksX6_near_0 4 rfl rfl)
theorem dX6_near_5 : decode cX6_near 5 = .ok (.getfield 26, 3) := dk_180 0 26 (dk_at dksX6_near_0 5 rfl rfl)
theorem dX6_near_8 : decode cX6_near 8 = .ok (.sipush 155, 3) := dk_17 0 155 (dk_at dksX6_near_0 8 rfl rfl)
theorem dX6_near_11 : decode cX6_near 11 = .ok (.invokestatic 192, 3) := dk_184 0 192 (dk_at dksX6_near_0 11 rfl rfl)
theorem dX6_near_14 : decode cX6_near 14 = .ok (.ldc 198, 2) := dk_18 198 (dk_at dksX6_near_0 14 rfl rfl)
theorem dX6_near_16 : decode cX6_near 16 = .ok (.istore_n 3, 1) := dk_62 (dk_at dksX6_near_0 16 rfl rfl)
theorem dX6_near_17 : decode cX6_near 17 = .ok (.iconst (-1), 1) := dk_2 (dk_at dksX6_near_0 17 rfl rfl)
theorem dX6_near_18 : decode cX6_near 18 = .ok (.istore 4, 2) := dk_54 4 (dk_at dksX6_near_0 18 rfl rfl)
theorem dX6_near_20 : decode cX6_near 20 = .ok (.iload 4, 2) := dk_21 4 (dk_at dksX6_near_0 20 rfl rfl)
theorem dX6_near_22 : decode cX6_near 22 = .ok (.aload_n 0, 1) := dk_42 (dk_at dksX6_near_0 22 rfl rfl)
theorem dX6_near_23 : decode cX6_near 23 = .ok (.invokevirtual 76, 3) := dk_182 0 76 (dk_at dksX6_near_1 0 rfl rfl)
theorem dX6_near_26 : decode cX6_near 26 = .ok (.if_icmp .ge 63, 3) := dk_162 0 63 (dk_at dksX6_near_1 3 rfl rfl)
theorem dX6_near_29 : decode cX6_near 29 = .ok (.aload_n 0, 1) := dk_42 (dk_at dksX6_near_1 6 rfl rfl)
theorem dX6_near_30 : decode cX6_near 30 = .ok (.iload 4, 2) := dk_21 4 (dk_at dksX6_near_1 7 rfl rfl)
theorem dX6_near_32 : decode cX6_near 32 = .ok (.invokevirtual 157, 3) := dk_182 0 157 (dk_at dksX6_near_1 9 rfl rfl)
theorem dX6_near_35 : decode cX6_near 35 = .ok (.ifCond .ne 6, 3) := dk_154 0 6 (dk_at dksX6_near_1 12 rfl rfl)
theorem dX6_near_38 : decode cX6_near 38 = .ok (.goto 45, 3) := dk_167 0 45 (dk_at dksX6_near_1 15 rfl rfl)
theorem dX6_near_41 : decode cX6_near 41 = .ok (.aload_n 0, 1) := dk_42 (dk_at dksX6_near_1 18 rfl rfl)
theorem dX6_near_42 : decode cX6_near 42 = .ok (.iload_n 1, 1) := dk_27 (dk_at dksX6_near_1 19 rfl rfl)
theorem dX6_near_43 : decode cX6_near 43 = .ok (.iload_n 2, 1) := dk_28 (dk_at dksX6_near_1 20 rfl rfl)
theorem dX6_near_44 : decode cX6_near 44 = .ok (.iload 4, 2) := dk_21 4 (dk_at dksX6_near_1 21 rfl rfl)
theorem dX6_near_46 : decode cX6_near 46 = .ok (.invokevirtual 199, 3) := dk_182 0 199 (dk_at dksX6_near_2 0 rfl rfl)
theorem dX6_near_49 : decode cX6_near 49 = .ok (.aload_n 0, 1) := dk_42 (dk_at dksX6_near_2 3 rfl rfl)
theorem dX6_near_50 : decode cX6_near 50 = .ok (.iload_n 1, 1) := dk_27 (dk_at dksX6_near_2 4 rfl rfl)
theorem dX6_near_51 : decode cX6_near 51 = .ok (.invokevirtual 202, 3) := dk_182 0 202 (dk_at dksX6_near_2 5 rfl rfl)
theorem dX6_near_54 : decode cX6_near 54 = .ok (.istore 5, 2) := dk_54 5 (dk_at dksX6_near_2 8 rfl rfl)
theorem dX6_near_56 : decode cX6_near 56 = .ok (.iload 5, 2) := dk_21 5 (dk_at dksX6_near_2 10 rfl rfl)
theorem dX6_near_58 : decode cX6_near 58 = .ok (.iload_n 3, 1) := dk_29 (dk_at dksX6_near_2 12 rfl rfl)
theorem dX6_near_59 : decode cX6_near 59 = .ok (.if_icmp .ge 8, 3) := dk_162 0 8 (dk_at dksX6_near_2 13 rfl rfl)
theorem dX6_near_62 : decode cX6_near 62 = .ok (.iload 5, 2) := dk_21 5 (dk_at dksX6_near_2 16 rfl rfl)
theorem dX6_near_64 : decode cX6_near 64 = .ok (.goto 4, 3) := dk_167 0 4 (dk_at dksX6_near_2 18 rfl rfl)
theorem dX6_near_67 : decode cX6_near 67 = .ok (.iload_n 3, 1) := dk_29 (dk_at dksX6_near_2 21 rfl rfl)
theorem dX6_near_68 : decode cX6_near 68 = .ok (.istore_n 3, 1) := dk_62 (dk_at dksX6_near_2 22 rfl rfl)
theorem dX6_near_69 : decode cX6_near 69 = .ok (.aload_n 0, 1) := dk_42 (dk_at dksX6_near_2 23 rfl rfl)
theorem dX6_near_70 : decode cX6_near 70 = .ok (.getfield 26, 3) := dk_180 0 26 (dk_at dksX6_near_3 0 rfl rfl)
theorem dX6_near_73 : decode cX6_near 73 = .ok (.aload_n 0, 1) := dk_42 (dk_at dksX6_near_3 3 rfl rfl)
theorem dX6_near_74 : decode cX6_near 74 = .ok (.getfield 20, 3) := dk_180 0 20 (dk_at dksX6_near_3 4 rfl rfl)
theorem dX6_near_77 : decode cX6_near 77 = .ok (.sipush 155, 3) := dk_17 0 155 (dk_at dksX6_near_3 7 rfl rfl)
theorem dX6_near_80 : decode cX6_near 80 = .ok (.invokestatic 192, 3) := dk_184 0 192 (dk_at dksX6_near_3 10 rfl rfl)
theorem dX6_near_83 : decode cX6_near 83 = .ok (.iinc 4 1, 3) := dk_132 4 1 (dk_at dksX6_near_3 13 rfl rfl)
theorem dX6_near_86 : decode cX6_near 86 = .ok (.goto (-66), 3) := dk_167 255 190 (dk_at dksX6_near_3 16 rfl rfl)
theorem dX6_near_89 : decode cX6_near 89 = .ok (.iload_n 3, 1) := dk_29 (dk_at dksX6_near_3 19 rfl rfl)
theorem dX6_near_90 : decode cX6_near 90 = .ok (.ireturn, 1) := dk_172 (dk_at dksX6_near_3 20 rfl rfl)
abbrev cX6_copies : ByteArray := prog_14_method_5_code
def yX6_copies : MethodName := ⟨RX6, "copies", "([I[II)V"⟩
def dkwX6_copies_0 : List UInt8 := [3, 62, 29, 28, 162, 0, 15, 43, 29, 42, 29, 46, 79, 132, 3, 1, 167, 255, 242, 177]
abbrev dktX6_copies_0 : List UInt8 := dkwX6_copies_0 ++ []
theorem dksX6_copies_0 : cX6_copies.data.toList.drop 0 = dktX6_copies_0 := by decide +kernel
theorem dX6_copies_0 : decode cX6_copies 0 = .ok (.iconst 0, 1) := dk_3 (dk_at dksX6_copies_0 0 rfl rfl)
theorem dX6_copies_1 : decode cX6_copies 1 = .ok (.istore_n 3, 1) := dk_62 (dk_at dksX6_copies_0 1 rfl rfl)
theorem dX6_copies_2 : decode cX6_copies 2 = .ok (.iload_n 3, 1) := dk_29 (dk_at dksX6_copies_0 2 rfl rfl)
theorem dX6_copies_3 : decode cX6_copies 3 = .ok (.iload_n 2, 1) := dk_28 (dk_at dksX6_copies_0 3 rfl rfl)
theorem dX6_copies_4 : decode cX6_copies 4 = .ok (.if_icmp .ge 15, 3) := dk_162 0 15 (dk_at dksX6_copies_0 4 rfl rfl)
theorem dX6_copies_7 : decode cX6_copies 7 = .ok (.aload_n 1, 1) := dk_43 (dk_at dksX6_copies_0 7 rfl rfl)
theorem dX6_copies_8 : decode cX6_copies 8 = .ok (.iload_n 3, 1) := dk_29 (dk_at dksX6_copies_0 8 rfl rfl)
theorem dX6_copies_9 : decode cX6_copies 9 = .ok (.aload_n 0, 1) := dk_42 (dk_at dksX6_copies_0 9 rfl rfl)
theorem dX6_copies_10 : decode cX6_copies 10 = .ok (.iload_n 3, 1) := dk_29 (dk_at dksX6_copies_0 10 rfl rfl)
theorem dX6_copies_11 : decode cX6_copies 11 = .ok (.iaload, 1) := dk_46 (dk_at dksX6_copies_0 11 rfl rfl)
theorem dX6_copies_12 : decode cX6_copies 12 = .ok (.iastore, 1) := dk_79 (dk_at dksX6_copies_0 12 rfl rfl)
theorem dX6_copies_13 : decode cX6_copies 13 = .ok (.iinc 3 1, 3) := dk_132 3 1 (dk_at dksX6_copies_0 13 rfl rfl)
theorem dX6_copies_16 : decode cX6_copies 16 = .ok (.goto (-14), 3) := dk_167 255 242 (dk_at dksX6_copies_0 16 rfl rfl)
theorem dX6_copies_19 : decode cX6_copies 19 = .ok (.return_, 1) := dk_177 (dk_at dksX6_copies_0 19 rfl rfl)
abbrev cX6_makes : ByteArray := prog_14_method_51_code
def yX6_makes : MethodName := ⟨RX6, "makes", "(III)V"⟩
def dkwX6_makes_0 : List UInt8 := [27, 154, 0, 12, 42, 28, 29, 182, 0, 164, 167, 0, 9, 42, 29, 28, 182, 0, 164, 177]
abbrev dktX6_makes_0 : List UInt8 := dkwX6_makes_0 ++ []
theorem dksX6_makes_0 : cX6_makes.data.toList.drop 0 = dktX6_makes_0 := by decide +kernel
theorem dX6_makes_0 : decode cX6_makes 0 = .ok (.iload_n 1, 1) := dk_27 (dk_at dksX6_makes_0 0 rfl rfl)
theorem dX6_makes_1 : decode cX6_makes 1 = .ok (.ifCond .ne 12, 3) := dk_154 0 12 (dk_at dksX6_makes_0 1 rfl rfl)
theorem dX6_makes_4 : decode cX6_makes 4 = .ok (.aload_n 0, 1) := dk_42 (dk_at dksX6_makes_0 4 rfl rfl)
theorem dX6_makes_5 : decode cX6_makes 5 = .ok (.iload_n 2, 1) := dk_28 (dk_at dksX6_makes_0 5 rfl rfl)
theorem dX6_makes_6 : decode cX6_makes 6 = .ok (.iload_n 3, 1) := dk_29 (dk_at dksX6_makes_0 6 rfl rfl)
theorem dX6_makes_7 : decode cX6_makes 7 = .ok (.invokevirtual 164, 3) := dk_182 0 164 (dk_at dksX6_makes_0 7 rfl rfl)
theorem dX6_makes_10 : decode cX6_makes 10 = .ok (.goto 9, 3) := dk_167 0 9 (dk_at dksX6_makes_0 10 rfl rfl)
theorem dX6_makes_13 : decode cX6_makes 13 = .ok (.aload_n 0, 1) := dk_42 (dk_at dksX6_makes_0 13 rfl rfl)
theorem dX6_makes_14 : decode cX6_makes 14 = .ok (.iload_n 3, 1) := dk_29 (dk_at dksX6_makes_0 14 rfl rfl)
theorem dX6_makes_15 : decode cX6_makes 15 = .ok (.iload_n 2, 1) := dk_28 (dk_at dksX6_makes_0 15 rfl rfl)
theorem dX6_makes_16 : decode cX6_makes 16 = .ok (.invokevirtual 164, 3) := dk_182 0 164 (dk_at dksX6_makes_0 16 rfl rfl)
theorem dX6_makes_19 : decode cX6_makes 19 = .ok (.return_, 1) := dk_177 (dk_at dksX6_makes_0 19 rfl rfl)
abbrev cX6_outcome : ByteArray := prog_14_method_50_code
def yX6_outcome : MethodName := ⟨RX6, "outcome", "(I)I"⟩
def dkwX6_outcome_0 : List UInt8 := [42, 27, 182, 0, 138, 42, 4, 27, 100, 182, 0, 138, 100, 172]
abbrev dktX6_outcome_0 : List UInt8 := dkwX6_outcome_0 ++ []
theorem dksX6_outcome_0 : cX6_outcome.data.toList.drop 0 = dktX6_outcome_0 := by decide +kernel
theorem dX6_outcome_0 : decode cX6_outcome 0 = .ok (.aload_n 0, 1) := dk_42 (dk_at dksX6_outcome_0 0 rfl rfl)
theorem dX6_outcome_1 : decode cX6_outcome 1 = .ok (.iload_n 1, 1) := dk_27 (dk_at dksX6_outcome_0 1 rfl rfl)
theorem dX6_outcome_2 : decode cX6_outcome 2 = .ok (.invokevirtual 138, 3) := dk_182 0 138 (dk_at dksX6_outcome_0 2 rfl rfl)
theorem dX6_outcome_5 : decode cX6_outcome 5 = .ok (.aload_n 0, 1) := dk_42 (dk_at dksX6_outcome_0 5 rfl rfl)
theorem dX6_outcome_6 : decode cX6_outcome 6 = .ok (.iconst 1, 1) := dk_4 (dk_at dksX6_outcome_0 6 rfl rfl)
theorem dX6_outcome_7 : decode cX6_outcome 7 = .ok (.iload_n 1, 1) := dk_27 (dk_at dksX6_outcome_0 7 rfl rfl)
theorem dX6_outcome_8 : decode cX6_outcome 8 = .ok (.isub, 1) := dk_100 (dk_at dksX6_outcome_0 8 rfl rfl)
theorem dX6_outcome_9 : decode cX6_outcome 9 = .ok (.invokevirtual 138, 3) := dk_182 0 138 (dk_at dksX6_outcome_0 9 rfl rfl)
theorem dX6_outcome_12 : decode cX6_outcome 12 = .ok (.isub, 1) := dk_100 (dk_at dksX6_outcome_0 12 rfl rfl)
theorem dX6_outcome_13 : decode cX6_outcome 13 = .ok (.ireturn, 1) := dk_172 (dk_at dksX6_outcome_0 13 rfl rfl)
abbrev cX6_far : ByteArray := prog_14_method_54_code
def yX6_far : MethodName := ⟨RX6, "far", "(II)I"⟩
def dkwX6_far_4 : List UInt8 := [17, 0, 155, 184, 0, 192, 132, 4, 1, 167, 255, 175, 29, 172]
abbrev dktX6_far_4 : List UInt8 := dkwX6_far_4 ++ []
def dkwX6_far_3 : List UInt8 := [54, 5, 21, 5, 29, 162, 0, 8, 21, 5, 167, 0, 4, 29, 62, 42, 180, 0, 23, 42, 180, 0, 20]
abbrev dktX6_far_3 : List UInt8 := dkwX6_far_3 ++ dktX6_far_4
def dkwX6_far_2 : List UInt8 := [182, 0, 199, 42, 182, 0, 170, 153, 0, 11, 42, 27, 182, 0, 202, 167, 0, 8, 42, 27, 182, 0, 210]
abbrev dktX6_far_2 : List UInt8 := dkwX6_far_2 ++ dktX6_far_3
def dkwX6_far_1 : List UInt8 := [182, 0, 76, 162, 0, 78, 42, 21, 4, 182, 0, 157, 154, 0, 6, 167, 0, 60, 42, 27, 28, 21, 4]
abbrev dktX6_far_1 : List UInt8 := dkwX6_far_1 ++ dktX6_far_2
def dkwX6_far_0 : List UInt8 := [42, 180, 0, 20, 42, 180, 0, 23, 17, 0, 155, 184, 0, 192, 18, 198, 62, 2, 54, 4, 21, 4, 42]
abbrev dktX6_far_0 : List UInt8 := dkwX6_far_0 ++ dktX6_far_1
theorem dksX6_far_0 : cX6_far.data.toList.drop 0 = dktX6_far_0 := by decide +kernel
theorem dksX6_far_1 : cX6_far.data.toList.drop 23 = dktX6_far_1 := dk_seg dksX6_far_0 23 rfl rfl
theorem dksX6_far_2 : cX6_far.data.toList.drop 46 = dktX6_far_2 := dk_seg dksX6_far_1 23 rfl rfl
theorem dksX6_far_3 : cX6_far.data.toList.drop 69 = dktX6_far_3 := dk_seg dksX6_far_2 23 rfl rfl
theorem dksX6_far_4 : cX6_far.data.toList.drop 92 = dktX6_far_4 := dk_seg dksX6_far_3 23 rfl rfl
theorem dX6_far_0 : decode cX6_far 0 = .ok (.aload_n 0, 1) := dk_42 (dk_at dksX6_far_0 0 rfl rfl)
theorem dX6_far_1 : decode cX6_far 1 = .ok (.getfield 20, 3) := dk_180 0 20 (dk_at dksX6_far_0 1 rfl rfl)
theorem dX6_far_4 : decode cX6_far 4 = .ok (.aload_n 0, 1) := dk_42 (dk_at dksX6_far_0 4 rfl rfl)
theorem dX6_far_5 : decode cX6_far 5 = .ok (.getfield 23, 3) := dk_180 0 23 (dk_at dksX6_far_0 5 rfl rfl)
theorem dX6_far_8 : decode cX6_far 8 = .ok (.sipush 155, 3) := dk_17 0 155 (dk_at dksX6_far_0 8 rfl rfl)
theorem dX6_far_11 : decode cX6_far 11 = .ok (.invokestatic 192, 3) := dk_184 0 192 (dk_at dksX6_far_0 11 rfl rfl)
theorem dX6_far_14 : decode cX6_far 14 = .ok (.ldc 198, 2) := dk_18 198 (dk_at dksX6_far_0 14 rfl rfl)
theorem dX6_far_16 : decode cX6_far 16 = .ok (.istore_n 3, 1) := dk_62 (dk_at dksX6_far_0 16 rfl rfl)
theorem dX6_far_17 : decode cX6_far 17 = .ok (.iconst (-1), 1) := dk_2 (dk_at dksX6_far_0 17 rfl rfl)
theorem dX6_far_18 : decode cX6_far 18 = .ok (.istore 4, 2) := dk_54 4 (dk_at dksX6_far_0 18 rfl rfl)
theorem dX6_far_20 : decode cX6_far 20 = .ok (.iload 4, 2) := dk_21 4 (dk_at dksX6_far_0 20 rfl rfl)
theorem dX6_far_22 : decode cX6_far 22 = .ok (.aload_n 0, 1) := dk_42 (dk_at dksX6_far_0 22 rfl rfl)
theorem dX6_far_23 : decode cX6_far 23 = .ok (.invokevirtual 76, 3) := dk_182 0 76 (dk_at dksX6_far_1 0 rfl rfl)
theorem dX6_far_26 : decode cX6_far 26 = .ok (.if_icmp .ge 78, 3) := dk_162 0 78 (dk_at dksX6_far_1 3 rfl rfl)
theorem dX6_far_29 : decode cX6_far 29 = .ok (.aload_n 0, 1) := dk_42 (dk_at dksX6_far_1 6 rfl rfl)
theorem dX6_far_30 : decode cX6_far 30 = .ok (.iload 4, 2) := dk_21 4 (dk_at dksX6_far_1 7 rfl rfl)
theorem dX6_far_32 : decode cX6_far 32 = .ok (.invokevirtual 157, 3) := dk_182 0 157 (dk_at dksX6_far_1 9 rfl rfl)
theorem dX6_far_35 : decode cX6_far 35 = .ok (.ifCond .ne 6, 3) := dk_154 0 6 (dk_at dksX6_far_1 12 rfl rfl)
theorem dX6_far_38 : decode cX6_far 38 = .ok (.goto 60, 3) := dk_167 0 60 (dk_at dksX6_far_1 15 rfl rfl)
theorem dX6_far_41 : decode cX6_far 41 = .ok (.aload_n 0, 1) := dk_42 (dk_at dksX6_far_1 18 rfl rfl)
theorem dX6_far_42 : decode cX6_far 42 = .ok (.iload_n 1, 1) := dk_27 (dk_at dksX6_far_1 19 rfl rfl)
theorem dX6_far_43 : decode cX6_far 43 = .ok (.iload_n 2, 1) := dk_28 (dk_at dksX6_far_1 20 rfl rfl)
theorem dX6_far_44 : decode cX6_far 44 = .ok (.iload 4, 2) := dk_21 4 (dk_at dksX6_far_1 21 rfl rfl)
theorem dX6_far_46 : decode cX6_far 46 = .ok (.invokevirtual 199, 3) := dk_182 0 199 (dk_at dksX6_far_2 0 rfl rfl)
theorem dX6_far_49 : decode cX6_far 49 = .ok (.aload_n 0, 1) := dk_42 (dk_at dksX6_far_2 3 rfl rfl)
theorem dX6_far_50 : decode cX6_far 50 = .ok (.invokevirtual 170, 3) := dk_182 0 170 (dk_at dksX6_far_2 4 rfl rfl)
theorem dX6_far_53 : decode cX6_far 53 = .ok (.ifCond .eq 11, 3) := dk_153 0 11 (dk_at dksX6_far_2 7 rfl rfl)
theorem dX6_far_56 : decode cX6_far 56 = .ok (.aload_n 0, 1) := dk_42 (dk_at dksX6_far_2 10 rfl rfl)
theorem dX6_far_57 : decode cX6_far 57 = .ok (.iload_n 1, 1) := dk_27 (dk_at dksX6_far_2 11 rfl rfl)
theorem dX6_far_58 : decode cX6_far 58 = .ok (.invokevirtual 202, 3) := dk_182 0 202 (dk_at dksX6_far_2 12 rfl rfl)
theorem dX6_far_61 : decode cX6_far 61 = .ok (.goto 8, 3) := dk_167 0 8 (dk_at dksX6_far_2 15 rfl rfl)
theorem dX6_far_64 : decode cX6_far 64 = .ok (.aload_n 0, 1) := dk_42 (dk_at dksX6_far_2 18 rfl rfl)
theorem dX6_far_65 : decode cX6_far 65 = .ok (.iload_n 1, 1) := dk_27 (dk_at dksX6_far_2 19 rfl rfl)
theorem dX6_far_66 : decode cX6_far 66 = .ok (.invokevirtual 210, 3) := dk_182 0 210 (dk_at dksX6_far_2 20 rfl rfl)
theorem dX6_far_69 : decode cX6_far 69 = .ok (.istore 5, 2) := dk_54 5 (dk_at dksX6_far_3 0 rfl rfl)
theorem dX6_far_71 : decode cX6_far 71 = .ok (.iload 5, 2) := dk_21 5 (dk_at dksX6_far_3 2 rfl rfl)
theorem dX6_far_73 : decode cX6_far 73 = .ok (.iload_n 3, 1) := dk_29 (dk_at dksX6_far_3 4 rfl rfl)
theorem dX6_far_74 : decode cX6_far 74 = .ok (.if_icmp .ge 8, 3) := dk_162 0 8 (dk_at dksX6_far_3 5 rfl rfl)
theorem dX6_far_77 : decode cX6_far 77 = .ok (.iload 5, 2) := dk_21 5 (dk_at dksX6_far_3 8 rfl rfl)
theorem dX6_far_79 : decode cX6_far 79 = .ok (.goto 4, 3) := dk_167 0 4 (dk_at dksX6_far_3 10 rfl rfl)
theorem dX6_far_82 : decode cX6_far 82 = .ok (.iload_n 3, 1) := dk_29 (dk_at dksX6_far_3 13 rfl rfl)
theorem dX6_far_83 : decode cX6_far 83 = .ok (.istore_n 3, 1) := dk_62 (dk_at dksX6_far_3 14 rfl rfl)
theorem dX6_far_84 : decode cX6_far 84 = .ok (.aload_n 0, 1) := dk_42 (dk_at dksX6_far_3 15 rfl rfl)
theorem dX6_far_85 : decode cX6_far 85 = .ok (.getfield 23, 3) := dk_180 0 23 (dk_at dksX6_far_3 16 rfl rfl)
theorem dX6_far_88 : decode cX6_far 88 = .ok (.aload_n 0, 1) := dk_42 (dk_at dksX6_far_3 19 rfl rfl)
theorem dX6_far_89 : decode cX6_far 89 = .ok (.getfield 20, 3) := dk_180 0 20 (dk_at dksX6_far_3 20 rfl rfl)
theorem dX6_far_92 : decode cX6_far 92 = .ok (.sipush 155, 3) := dk_17 0 155 (dk_at dksX6_far_4 0 rfl rfl)
theorem dX6_far_95 : decode cX6_far 95 = .ok (.invokestatic 192, 3) := dk_184 0 192 (dk_at dksX6_far_4 3 rfl rfl)
theorem dX6_far_98 : decode cX6_far 98 = .ok (.iinc 4 1, 3) := dk_132 4 1 (dk_at dksX6_far_4 6 rfl rfl)
theorem dX6_far_101 : decode cX6_far 101 = .ok (.goto (-81), 3) := dk_167 255 175 (dk_at dksX6_far_4 9 rfl rfl)
theorem dX6_far_104 : decode cX6_far 104 = .ok (.iload_n 3, 1) := dk_29 (dk_at dksX6_far_4 12 rfl rfl)
theorem dX6_far_105 : decode cX6_far 105 = .ok (.ireturn, 1) := dk_172 (dk_at dksX6_far_4 13 rfl rfl)
abbrev cX6_bestNear : ByteArray := prog_14_method_53_code
def yX6_bestNear : MethodName := ⟨RX6, "bestNear", "(I)I"⟩
def dkwX6_bestNear_2 : List UInt8 := [167, 255, 213, 28, 172]
abbrev dktX6_bestNear_2 : List UInt8 := dkwX6_bestNear_2 ++ []
def dkwX6_bestNear_1 : List UInt8 := [42, 27, 29, 182, 0, 206, 54, 4, 21, 4, 28, 164, 0, 8, 21, 4, 167, 0, 4, 28, 61, 132, 3, 1]
abbrev dktX6_bestNear_1 : List UInt8 := dkwX6_bestNear_1 ++ dktX6_bestNear_2
def dkwX6_bestNear_0 : List UInt8 := [18, 205, 61, 2, 62, 29, 42, 182, 0, 76, 162, 0, 41, 42, 29, 182, 0, 157, 154, 0, 6, 167, 0, 24]
abbrev dktX6_bestNear_0 : List UInt8 := dkwX6_bestNear_0 ++ dktX6_bestNear_1
theorem dksX6_bestNear_0 : cX6_bestNear.data.toList.drop 0 = dktX6_bestNear_0 := by decide +kernel
theorem dksX6_bestNear_1 : cX6_bestNear.data.toList.drop 24 = dktX6_bestNear_1 := dk_seg dksX6_bestNear_0 24 rfl rfl
theorem dksX6_bestNear_2 : cX6_bestNear.data.toList.drop 48 = dktX6_bestNear_2 := dk_seg dksX6_bestNear_1 24 rfl rfl
theorem dX6_bestNear_0 : decode cX6_bestNear 0 = .ok (.ldc 205, 2) := dk_18 205 (dk_at dksX6_bestNear_0 0 rfl rfl)
theorem dX6_bestNear_2 : decode cX6_bestNear 2 = .ok (.istore_n 2, 1) := dk_61 (dk_at dksX6_bestNear_0 2 rfl rfl)
theorem dX6_bestNear_3 : decode cX6_bestNear 3 = .ok (.iconst (-1), 1) := dk_2 (dk_at dksX6_bestNear_0 3 rfl rfl)
theorem dX6_bestNear_4 : decode cX6_bestNear 4 = .ok (.istore_n 3, 1) := dk_62 (dk_at dksX6_bestNear_0 4 rfl rfl)
theorem dX6_bestNear_5 : decode cX6_bestNear 5 = .ok (.iload_n 3, 1) := dk_29 (dk_at dksX6_bestNear_0 5 rfl rfl)
theorem dX6_bestNear_6 : decode cX6_bestNear 6 = .ok (.aload_n 0, 1) := dk_42 (dk_at dksX6_bestNear_0 6 rfl rfl)
theorem dX6_bestNear_7 : decode cX6_bestNear 7 = .ok (.invokevirtual 76, 3) := dk_182 0 76 (dk_at dksX6_bestNear_0 7 rfl rfl)
theorem dX6_bestNear_10 : decode cX6_bestNear 10 = .ok (.if_icmp .ge 41, 3) := dk_162 0 41 (dk_at dksX6_bestNear_0 10 rfl rfl)
theorem dX6_bestNear_13 : decode cX6_bestNear 13 = .ok (.aload_n 0, 1) := dk_42 (dk_at dksX6_bestNear_0 13 rfl rfl)
theorem dX6_bestNear_14 : decode cX6_bestNear 14 = .ok (.iload_n 3, 1) := dk_29 (dk_at dksX6_bestNear_0 14 rfl rfl)
theorem dX6_bestNear_15 : decode cX6_bestNear 15 = .ok (.invokevirtual 157, 3) := dk_182 0 157 (dk_at dksX6_bestNear_0 15 rfl rfl)
theorem dX6_bestNear_18 : decode cX6_bestNear 18 = .ok (.ifCond .ne 6, 3) := dk_154 0 6 (dk_at dksX6_bestNear_0 18 rfl rfl)
theorem dX6_bestNear_21 : decode cX6_bestNear 21 = .ok (.goto 24, 3) := dk_167 0 24 (dk_at dksX6_bestNear_0 21 rfl rfl)
theorem dX6_bestNear_24 : decode cX6_bestNear 24 = .ok (.aload_n 0, 1) := dk_42 (dk_at dksX6_bestNear_1 0 rfl rfl)
theorem dX6_bestNear_25 : decode cX6_bestNear 25 = .ok (.iload_n 1, 1) := dk_27 (dk_at dksX6_bestNear_1 1 rfl rfl)
theorem dX6_bestNear_26 : decode cX6_bestNear 26 = .ok (.iload_n 3, 1) := dk_29 (dk_at dksX6_bestNear_1 2 rfl rfl)
theorem dX6_bestNear_27 : decode cX6_bestNear 27 = .ok (.invokevirtual 206, 3) := dk_182 0 206 (dk_at dksX6_bestNear_1 3 rfl rfl)
theorem dX6_bestNear_30 : decode cX6_bestNear 30 = .ok (.istore 4, 2) := dk_54 4 (dk_at dksX6_bestNear_1 6 rfl rfl)
theorem dX6_bestNear_32 : decode cX6_bestNear 32 = .ok (.iload 4, 2) := dk_21 4 (dk_at dksX6_bestNear_1 8 rfl rfl)
theorem dX6_bestNear_34 : decode cX6_bestNear 34 = .ok (.iload_n 2, 1) := dk_28 (dk_at dksX6_bestNear_1 10 rfl rfl)
theorem dX6_bestNear_35 : decode cX6_bestNear 35 = .ok (.if_icmp .le 8, 3) := dk_164 0 8 (dk_at dksX6_bestNear_1 11 rfl rfl)
theorem dX6_bestNear_38 : decode cX6_bestNear 38 = .ok (.iload 4, 2) := dk_21 4 (dk_at dksX6_bestNear_1 14 rfl rfl)
theorem dX6_bestNear_40 : decode cX6_bestNear 40 = .ok (.goto 4, 3) := dk_167 0 4 (dk_at dksX6_bestNear_1 16 rfl rfl)
theorem dX6_bestNear_43 : decode cX6_bestNear 43 = .ok (.iload_n 2, 1) := dk_28 (dk_at dksX6_bestNear_1 19 rfl rfl)
theorem dX6_bestNear_44 : decode cX6_bestNear 44 = .ok (.istore_n 2, 1) := dk_61 (dk_at dksX6_bestNear_1 20 rfl rfl)
theorem dX6_bestNear_45 : decode cX6_bestNear 45 = .ok (.iinc 3 1, 3) := dk_132 3 1 (dk_at dksX6_bestNear_1 21 rfl rfl)
theorem dX6_bestNear_48 : decode cX6_bestNear 48 = .ok (.goto (-43), 3) := dk_167 255 213 (dk_at dksX6_bestNear_2 0 rfl rfl)
theorem dX6_bestNear_51 : decode cX6_bestNear 51 = .ok (.iload_n 2, 1) := dk_28 (dk_at dksX6_bestNear_2 3 rfl rfl)
theorem dX6_bestNear_52 : decode cX6_bestNear 52 = .ok (.ireturn, 1) := dk_172 (dk_at dksX6_bestNear_2 4 rfl rfl)
abbrev cX6_best : ByteArray := prog_14_method_57_code
def yX6_best : MethodName := ⟨RX6, "best", "(II)I"⟩
def dkwX6_best_5 : List UInt8 := [54, 7, 21, 7, 21, 4, 164, 0, 10, 21, 6, 62, 21, 7, 54, 4, 132, 5, 1, 167, 255, 191, 29, 172]
abbrev dktX6_best_5 : List UInt8 := dkwX6_best_5 ++ []
def dkwX6_best_4 : List UInt8 := [21, 5, 54, 6, 42, 21, 6, 182, 0, 157, 154, 0, 6, 167, 0, 27, 42, 27, 21, 6, 28, 182, 0, 216]
abbrev dktX6_best_4 : List UInt8 := dkwX6_best_4 ++ dktX6_best_5
def dkwX6_best_3 : List UInt8 := [54, 5, 21, 5, 42, 182, 0, 76, 163, 0, 62, 21, 5, 42, 182, 0, 76, 160, 0, 7, 2, 167, 0, 5]
abbrev dktX6_best_3 : List UInt8 := dkwX6_best_3 ++ dktX6_best_4
def dkwX6_best_2 : List UInt8 := [6, 167, 0, 4, 3, 181, 0, 73, 42, 180, 0, 73, 158, 0, 5, 3, 172, 2, 62, 18, 205, 54, 4, 3]
abbrev dktX6_best_2 : List UInt8 := dkwX6_best_2 ++ dktX6_best_3
def dkwX6_best_1 : List UInt8 := [167, 0, 29, 42, 182, 0, 170, 154, 0, 17, 28, 5, 160, 0, 16, 42, 182, 0, 108, 16, 6, 164, 0, 7]
abbrev dktX6_best_1 : List UInt8 := dkwX6_best_1 ++ dktX6_best_2
def dkwX6_best_0 : List UInt8 := [42, 27, 3, 4, 184, 0, 80, 154, 0, 7, 4, 167, 0, 42, 28, 4, 5, 184, 0, 80, 154, 0, 7, 5]
abbrev dktX6_best_0 : List UInt8 := dkwX6_best_0 ++ dktX6_best_1
theorem dksX6_best_0 : cX6_best.data.toList.drop 0 = dktX6_best_0 := by decide +kernel
theorem dksX6_best_1 : cX6_best.data.toList.drop 24 = dktX6_best_1 := dk_seg dksX6_best_0 24 rfl rfl
theorem dksX6_best_2 : cX6_best.data.toList.drop 48 = dktX6_best_2 := dk_seg dksX6_best_1 24 rfl rfl
theorem dksX6_best_3 : cX6_best.data.toList.drop 72 = dktX6_best_3 := dk_seg dksX6_best_2 24 rfl rfl
theorem dksX6_best_4 : cX6_best.data.toList.drop 96 = dktX6_best_4 := dk_seg dksX6_best_3 24 rfl rfl
theorem dksX6_best_5 : cX6_best.data.toList.drop 120 = dktX6_best_5 := dk_seg dksX6_best_4 24 rfl rfl
theorem dX6_best_0 : decode cX6_best 0 = .ok (.aload_n 0, 1) := dk_42 (dk_at dksX6_best_0 0 rfl rfl)
theorem dX6_best_1 : decode cX6_best 1 = .ok (.iload_n 1, 1) := dk_27 (dk_at dksX6_best_0 1 rfl rfl)
theorem dX6_best_2 : decode cX6_best 2 = .ok (.iconst 0, 1) := dk_3 (dk_at dksX6_best_0 2 rfl rfl)
theorem dX6_best_3 : decode cX6_best 3 = .ok (.iconst 1, 1) := dk_4 (dk_at dksX6_best_0 3 rfl rfl)
theorem dX6_best_4 : decode cX6_best 4 = .ok (.invokestatic 80, 3) := dk_184 0 80 (dk_at dksX6_best_0 4 rfl rfl)
theorem dX6_best_7 : decode cX6_best 7 = .ok (.ifCond .ne 7, 3) := dk_154 0 7 (dk_at dksX6_best_0 7 rfl rfl)
theorem dX6_best_10 : decode cX6_best 10 = .ok (.iconst 1, 1) := dk_4 (dk_at dksX6_best_0 10 rfl rfl)
theorem dX6_best_11 : decode cX6_best 11 = .ok (.goto 42, 3) := dk_167 0 42 (dk_at dksX6_best_0 11 rfl rfl)
theorem dX6_best_14 : decode cX6_best 14 = .ok (.iload_n 2, 1) := dk_28 (dk_at dksX6_best_0 14 rfl rfl)
theorem dX6_best_15 : decode cX6_best 15 = .ok (.iconst 1, 1) := dk_4 (dk_at dksX6_best_0 15 rfl rfl)
theorem dX6_best_16 : decode cX6_best 16 = .ok (.iconst 2, 1) := dk_5 (dk_at dksX6_best_0 16 rfl rfl)
theorem dX6_best_17 : decode cX6_best 17 = .ok (.invokestatic 80, 3) := dk_184 0 80 (dk_at dksX6_best_0 17 rfl rfl)
theorem dX6_best_20 : decode cX6_best 20 = .ok (.ifCond .ne 7, 3) := dk_154 0 7 (dk_at dksX6_best_0 20 rfl rfl)
theorem dX6_best_23 : decode cX6_best 23 = .ok (.iconst 2, 1) := dk_5 (dk_at dksX6_best_0 23 rfl rfl)
theorem dX6_best_24 : decode cX6_best 24 = .ok (.goto 29, 3) := dk_167 0 29 (dk_at dksX6_best_1 0 rfl rfl)
theorem dX6_best_27 : decode cX6_best 27 = .ok (.aload_n 0, 1) := dk_42 (dk_at dksX6_best_1 3 rfl rfl)
theorem dX6_best_28 : decode cX6_best 28 = .ok (.invokevirtual 170, 3) := dk_182 0 170 (dk_at dksX6_best_1 4 rfl rfl)
theorem dX6_best_31 : decode cX6_best 31 = .ok (.ifCond .ne 17, 3) := dk_154 0 17 (dk_at dksX6_best_1 7 rfl rfl)
theorem dX6_best_34 : decode cX6_best 34 = .ok (.iload_n 2, 1) := dk_28 (dk_at dksX6_best_1 10 rfl rfl)
theorem dX6_best_35 : decode cX6_best 35 = .ok (.iconst 2, 1) := dk_5 (dk_at dksX6_best_1 11 rfl rfl)
theorem dX6_best_36 : decode cX6_best 36 = .ok (.if_icmp .ne 16, 3) := dk_160 0 16 (dk_at dksX6_best_1 12 rfl rfl)
theorem dX6_best_39 : decode cX6_best 39 = .ok (.aload_n 0, 1) := dk_42 (dk_at dksX6_best_1 15 rfl rfl)
theorem dX6_best_40 : decode cX6_best 40 = .ok (.invokevirtual 108, 3) := dk_182 0 108 (dk_at dksX6_best_1 16 rfl rfl)
theorem dX6_best_43 : decode cX6_best 43 = .ok (.bipush 6, 2) := dk_16 6 (dk_at dksX6_best_1 19 rfl rfl)
theorem dX6_best_45 : decode cX6_best 45 = .ok (.if_icmp .le 7, 3) := dk_164 0 7 (dk_at dksX6_best_1 21 rfl rfl)
theorem dX6_best_48 : decode cX6_best 48 = .ok (.iconst 3, 1) := dk_6 (dk_at dksX6_best_2 0 rfl rfl)
theorem dX6_best_49 : decode cX6_best 49 = .ok (.goto 4, 3) := dk_167 0 4 (dk_at dksX6_best_2 1 rfl rfl)
theorem dX6_best_52 : decode cX6_best 52 = .ok (.iconst 0, 1) := dk_3 (dk_at dksX6_best_2 4 rfl rfl)
theorem dX6_best_53 : decode cX6_best 53 = .ok (.putfield 73, 3) := dk_181 0 73 (dk_at dksX6_best_2 5 rfl rfl)
theorem dX6_best_56 : decode cX6_best 56 = .ok (.aload_n 0, 1) := dk_42 (dk_at dksX6_best_2 8 rfl rfl)
theorem dX6_best_57 : decode cX6_best 57 = .ok (.getfield 73, 3) := dk_180 0 73 (dk_at dksX6_best_2 9 rfl rfl)
theorem dX6_best_60 : decode cX6_best 60 = .ok (.ifCond .le 5, 3) := dk_158 0 5 (dk_at dksX6_best_2 12 rfl rfl)
theorem dX6_best_63 : decode cX6_best 63 = .ok (.iconst 0, 1) := dk_3 (dk_at dksX6_best_2 15 rfl rfl)
theorem dX6_best_64 : decode cX6_best 64 = .ok (.ireturn, 1) := dk_172 (dk_at dksX6_best_2 16 rfl rfl)
theorem dX6_best_65 : decode cX6_best 65 = .ok (.iconst (-1), 1) := dk_2 (dk_at dksX6_best_2 17 rfl rfl)
theorem dX6_best_66 : decode cX6_best 66 = .ok (.istore_n 3, 1) := dk_62 (dk_at dksX6_best_2 18 rfl rfl)
theorem dX6_best_67 : decode cX6_best 67 = .ok (.ldc 205, 2) := dk_18 205 (dk_at dksX6_best_2 19 rfl rfl)
theorem dX6_best_69 : decode cX6_best 69 = .ok (.istore 4, 2) := dk_54 4 (dk_at dksX6_best_2 21 rfl rfl)
theorem dX6_best_71 : decode cX6_best 71 = .ok (.iconst 0, 1) := dk_3 (dk_at dksX6_best_2 23 rfl rfl)
theorem dX6_best_72 : decode cX6_best 72 = .ok (.istore 5, 2) := dk_54 5 (dk_at dksX6_best_3 0 rfl rfl)
theorem dX6_best_74 : decode cX6_best 74 = .ok (.iload 5, 2) := dk_21 5 (dk_at dksX6_best_3 2 rfl rfl)
theorem dX6_best_76 : decode cX6_best 76 = .ok (.aload_n 0, 1) := dk_42 (dk_at dksX6_best_3 4 rfl rfl)
theorem dX6_best_77 : decode cX6_best 77 = .ok (.invokevirtual 76, 3) := dk_182 0 76 (dk_at dksX6_best_3 5 rfl rfl)
theorem dX6_best_80 : decode cX6_best 80 = .ok (.if_icmp .gt 62, 3) := dk_163 0 62 (dk_at dksX6_best_3 8 rfl rfl)
theorem dX6_best_83 : decode cX6_best 83 = .ok (.iload 5, 2) := dk_21 5 (dk_at dksX6_best_3 11 rfl rfl)
theorem dX6_best_85 : decode cX6_best 85 = .ok (.aload_n 0, 1) := dk_42 (dk_at dksX6_best_3 13 rfl rfl)
theorem dX6_best_86 : decode cX6_best 86 = .ok (.invokevirtual 76, 3) := dk_182 0 76 (dk_at dksX6_best_3 14 rfl rfl)
theorem dX6_best_89 : decode cX6_best 89 = .ok (.if_icmp .ne 7, 3) := dk_160 0 7 (dk_at dksX6_best_3 17 rfl rfl)
theorem dX6_best_92 : decode cX6_best 92 = .ok (.iconst (-1), 1) := dk_2 (dk_at dksX6_best_3 20 rfl rfl)
theorem dX6_best_93 : decode cX6_best 93 = .ok (.goto 5, 3) := dk_167 0 5 (dk_at dksX6_best_3 21 rfl rfl)
theorem dX6_best_96 : decode cX6_best 96 = .ok (.iload 5, 2) := dk_21 5 (dk_at dksX6_best_4 0 rfl rfl)
theorem dX6_best_98 : decode cX6_best 98 = .ok (.istore 6, 2) := dk_54 6 (dk_at dksX6_best_4 2 rfl rfl)
theorem dX6_best_100 : decode cX6_best 100 = .ok (.aload_n 0, 1) := dk_42 (dk_at dksX6_best_4 4 rfl rfl)
theorem dX6_best_101 : decode cX6_best 101 = .ok (.iload 6, 2) := dk_21 6 (dk_at dksX6_best_4 5 rfl rfl)
theorem dX6_best_103 : decode cX6_best 103 = .ok (.invokevirtual 157, 3) := dk_182 0 157 (dk_at dksX6_best_4 7 rfl rfl)
theorem dX6_best_106 : decode cX6_best 106 = .ok (.ifCond .ne 6, 3) := dk_154 0 6 (dk_at dksX6_best_4 10 rfl rfl)
theorem dX6_best_109 : decode cX6_best 109 = .ok (.goto 27, 3) := dk_167 0 27 (dk_at dksX6_best_4 13 rfl rfl)
theorem dX6_best_112 : decode cX6_best 112 = .ok (.aload_n 0, 1) := dk_42 (dk_at dksX6_best_4 16 rfl rfl)
theorem dX6_best_113 : decode cX6_best 113 = .ok (.iload_n 1, 1) := dk_27 (dk_at dksX6_best_4 17 rfl rfl)
theorem dX6_best_114 : decode cX6_best 114 = .ok (.iload 6, 2) := dk_21 6 (dk_at dksX6_best_4 18 rfl rfl)
theorem dX6_best_116 : decode cX6_best 116 = .ok (.iload_n 2, 1) := dk_28 (dk_at dksX6_best_4 20 rfl rfl)
theorem dX6_best_117 : decode cX6_best 117 = .ok (.invokevirtual 216, 3) := dk_182 0 216 (dk_at dksX6_best_4 21 rfl rfl)
theorem dX6_best_120 : decode cX6_best 120 = .ok (.istore 7, 2) := dk_54 7 (dk_at dksX6_best_5 0 rfl rfl)
theorem dX6_best_122 : decode cX6_best 122 = .ok (.iload 7, 2) := dk_21 7 (dk_at dksX6_best_5 2 rfl rfl)
theorem dX6_best_124 : decode cX6_best 124 = .ok (.iload 4, 2) := dk_21 4 (dk_at dksX6_best_5 4 rfl rfl)
theorem dX6_best_126 : decode cX6_best 126 = .ok (.if_icmp .le 10, 3) := dk_164 0 10 (dk_at dksX6_best_5 6 rfl rfl)
theorem dX6_best_129 : decode cX6_best 129 = .ok (.iload 6, 2) := dk_21 6 (dk_at dksX6_best_5 9 rfl rfl)
theorem dX6_best_131 : decode cX6_best 131 = .ok (.istore_n 3, 1) := dk_62 (dk_at dksX6_best_5 11 rfl rfl)
theorem dX6_best_132 : decode cX6_best 132 = .ok (.iload 7, 2) := dk_21 7 (dk_at dksX6_best_5 12 rfl rfl)
theorem dX6_best_134 : decode cX6_best 134 = .ok (.istore 4, 2) := dk_54 4 (dk_at dksX6_best_5 14 rfl rfl)
theorem dX6_best_136 : decode cX6_best 136 = .ok (.iinc 5 1, 3) := dk_132 5 1 (dk_at dksX6_best_5 16 rfl rfl)
theorem dX6_best_139 : decode cX6_best 139 = .ok (.goto (-65), 3) := dk_167 255 191 (dk_at dksX6_best_5 19 rfl rfl)
theorem dX6_best_142 : decode cX6_best 142 = .ok (.iload_n 3, 1) := dk_29 (dk_at dksX6_best_5 22 rfl rfl)
theorem dX6_best_143 : decode cX6_best 143 = .ok (.ireturn, 1) := dk_172 (dk_at dksX6_best_5 23 rfl rfl)
abbrev cX6_levels : ByteArray := prog_14_method_58_code
def yX6_levels : MethodName := ⟨RX6, "levels", "()I"⟩
def dkwX6_levels_0 : List UInt8 := [42, 3, 181, 0, 73, 42, 180, 0, 154, 172]
abbrev dktX6_levels_0 : List UInt8 := dkwX6_levels_0 ++ []
theorem dksX6_levels_0 : cX6_levels.data.toList.drop 0 = dktX6_levels_0 := by decide +kernel
theorem dX6_levels_0 : decode cX6_levels 0 = .ok (.aload_n 0, 1) := dk_42 (dk_at dksX6_levels_0 0 rfl rfl)
theorem dX6_levels_1 : decode cX6_levels 1 = .ok (.iconst 0, 1) := dk_3 (dk_at dksX6_levels_0 1 rfl rfl)
theorem dX6_levels_2 : decode cX6_levels 2 = .ok (.putfield 73, 3) := dk_181 0 73 (dk_at dksX6_levels_0 2 rfl rfl)
theorem dX6_levels_5 : decode cX6_levels 5 = .ok (.aload_n 0, 1) := dk_42 (dk_at dksX6_levels_0 5 rfl rfl)
theorem dX6_levels_6 : decode cX6_levels 6 = .ok (.getfield 154, 3) := dk_180 0 154 (dk_at dksX6_levels_0 6 rfl rfl)
theorem dX6_levels_9 : decode cX6_levels 9 = .ok (.ireturn, 1) := dk_172 (dk_at dksX6_levels_0 9 rfl rfl)
abbrev cX6_report : ByteArray := prog_14_method_59_code
def yX6_report : MethodName := ⟨RX6, "report", "(II)I"⟩
def dkwX6_report_2 : List UInt8 := [167, 0, 22, 28, 154, 0, 12, 42, 180, 0, 59, 27, 46, 167, 0, 9, 42, 180, 0, 62, 27, 46, 172]
abbrev dktX6_report_2 : List UInt8 := dkwX6_report_2 ++ []
def dkwX6_report_1 : List UInt8 := [184, 0, 80, 154, 0, 7, 5, 167, 0, 4, 3, 181, 0, 73, 42, 180, 0, 73, 158, 0, 7, 3]
abbrev dktX6_report_1 : List UInt8 := dkwX6_report_1 ++ dktX6_report_2
def dkwX6_report_0 : List UInt8 := [42, 27, 3, 42, 180, 0, 154, 4, 100, 184, 0, 80, 154, 0, 7, 4, 167, 0, 17, 28, 3, 4]
abbrev dktX6_report_0 : List UInt8 := dkwX6_report_0 ++ dktX6_report_1
theorem dksX6_report_0 : cX6_report.data.toList.drop 0 = dktX6_report_0 := by decide +kernel
theorem dksX6_report_1 : cX6_report.data.toList.drop 22 = dktX6_report_1 := dk_seg dksX6_report_0 22 rfl rfl
theorem dksX6_report_2 : cX6_report.data.toList.drop 44 = dktX6_report_2 := dk_seg dksX6_report_1 22 rfl rfl
theorem dX6_report_0 : decode cX6_report 0 = .ok (.aload_n 0, 1) := dk_42 (dk_at dksX6_report_0 0 rfl rfl)
theorem dX6_report_1 : decode cX6_report 1 = .ok (.iload_n 1, 1) := dk_27 (dk_at dksX6_report_0 1 rfl rfl)
theorem dX6_report_2 : decode cX6_report 2 = .ok (.iconst 0, 1) := dk_3 (dk_at dksX6_report_0 2 rfl rfl)
theorem dX6_report_3 : decode cX6_report 3 = .ok (.aload_n 0, 1) := dk_42 (dk_at dksX6_report_0 3 rfl rfl)
theorem dX6_report_4 : decode cX6_report 4 = .ok (.getfield 154, 3) := dk_180 0 154 (dk_at dksX6_report_0 4 rfl rfl)
theorem dX6_report_7 : decode cX6_report 7 = .ok (.iconst 1, 1) := dk_4 (dk_at dksX6_report_0 7 rfl rfl)
theorem dX6_report_8 : decode cX6_report 8 = .ok (.isub, 1) := dk_100 (dk_at dksX6_report_0 8 rfl rfl)
theorem dX6_report_9 : decode cX6_report 9 = .ok (.invokestatic 80, 3) := dk_184 0 80 (dk_at dksX6_report_0 9 rfl rfl)
theorem dX6_report_12 : decode cX6_report 12 = .ok (.ifCond .ne 7, 3) := dk_154 0 7 (dk_at dksX6_report_0 12 rfl rfl)
theorem dX6_report_15 : decode cX6_report 15 = .ok (.iconst 1, 1) := dk_4 (dk_at dksX6_report_0 15 rfl rfl)
theorem dX6_report_16 : decode cX6_report 16 = .ok (.goto 17, 3) := dk_167 0 17 (dk_at dksX6_report_0 16 rfl rfl)
theorem dX6_report_19 : decode cX6_report 19 = .ok (.iload_n 2, 1) := dk_28 (dk_at dksX6_report_0 19 rfl rfl)
theorem dX6_report_20 : decode cX6_report 20 = .ok (.iconst 0, 1) := dk_3 (dk_at dksX6_report_0 20 rfl rfl)
theorem dX6_report_21 : decode cX6_report 21 = .ok (.iconst 1, 1) := dk_4 (dk_at dksX6_report_0 21 rfl rfl)
theorem dX6_report_22 : decode cX6_report 22 = .ok (.invokestatic 80, 3) := dk_184 0 80 (dk_at dksX6_report_1 0 rfl rfl)
theorem dX6_report_25 : decode cX6_report 25 = .ok (.ifCond .ne 7, 3) := dk_154 0 7 (dk_at dksX6_report_1 3 rfl rfl)
theorem dX6_report_28 : decode cX6_report 28 = .ok (.iconst 2, 1) := dk_5 (dk_at dksX6_report_1 6 rfl rfl)
theorem dX6_report_29 : decode cX6_report 29 = .ok (.goto 4, 3) := dk_167 0 4 (dk_at dksX6_report_1 7 rfl rfl)
theorem dX6_report_32 : decode cX6_report 32 = .ok (.iconst 0, 1) := dk_3 (dk_at dksX6_report_1 10 rfl rfl)
theorem dX6_report_33 : decode cX6_report 33 = .ok (.putfield 73, 3) := dk_181 0 73 (dk_at dksX6_report_1 11 rfl rfl)
theorem dX6_report_36 : decode cX6_report 36 = .ok (.aload_n 0, 1) := dk_42 (dk_at dksX6_report_1 14 rfl rfl)
theorem dX6_report_37 : decode cX6_report 37 = .ok (.getfield 73, 3) := dk_180 0 73 (dk_at dksX6_report_1 15 rfl rfl)
theorem dX6_report_40 : decode cX6_report 40 = .ok (.ifCond .le 7, 3) := dk_158 0 7 (dk_at dksX6_report_1 18 rfl rfl)
theorem dX6_report_43 : decode cX6_report 43 = .ok (.iconst 0, 1) := dk_3 (dk_at dksX6_report_1 21 rfl rfl)
theorem dX6_report_44 : decode cX6_report 44 = .ok (.goto 22, 3) := dk_167 0 22 (dk_at dksX6_report_2 0 rfl rfl)
theorem dX6_report_47 : decode cX6_report 47 = .ok (.iload_n 2, 1) := dk_28 (dk_at dksX6_report_2 3 rfl rfl)
theorem dX6_report_48 : decode cX6_report 48 = .ok (.ifCond .ne 12, 3) := dk_154 0 12 (dk_at dksX6_report_2 4 rfl rfl)
theorem dX6_report_51 : decode cX6_report 51 = .ok (.aload_n 0, 1) := dk_42 (dk_at dksX6_report_2 7 rfl rfl)
theorem dX6_report_52 : decode cX6_report 52 = .ok (.getfield 59, 3) := dk_180 0 59 (dk_at dksX6_report_2 8 rfl rfl)
theorem dX6_report_55 : decode cX6_report 55 = .ok (.iload_n 1, 1) := dk_27 (dk_at dksX6_report_2 11 rfl rfl)
theorem dX6_report_56 : decode cX6_report 56 = .ok (.iaload, 1) := dk_46 (dk_at dksX6_report_2 12 rfl rfl)
theorem dX6_report_57 : decode cX6_report 57 = .ok (.goto 9, 3) := dk_167 0 9 (dk_at dksX6_report_2 13 rfl rfl)
theorem dX6_report_60 : decode cX6_report 60 = .ok (.aload_n 0, 1) := dk_42 (dk_at dksX6_report_2 16 rfl rfl)
theorem dX6_report_61 : decode cX6_report 61 = .ok (.getfield 62, 3) := dk_180 0 62 (dk_at dksX6_report_2 17 rfl rfl)
theorem dX6_report_64 : decode cX6_report 64 = .ok (.iload_n 1, 1) := dk_27 (dk_at dksX6_report_2 20 rfl rfl)
theorem dX6_report_65 : decode cX6_report 65 = .ok (.iaload, 1) := dk_46 (dk_at dksX6_report_2 21 rfl rfl)
theorem dX6_report_66 : decode cX6_report 66 = .ok (.ireturn, 1) := dk_172 (dk_at dksX6_report_2 22 rfl rfl)
abbrev cX6_feed : ByteArray := prog_14_method_60_code
def yX6_feed : MethodName := ⟨RX6, "feed", "(C)I"⟩
def dkwX6_feed_2 : List UInt8 := [181, 0, 220, 42, 180, 0, 220, 172]
abbrev dktX6_feed_2 : List UInt8 := dkwX6_feed_2 ++ []
def dkwX6_feed_1 : List UInt8 := [160, 0, 5, 3, 172, 42, 180, 0, 65, 42, 180, 0, 220, 27, 85, 42, 89, 180, 0, 220, 4, 96]
abbrev dktX6_feed_1 : List UInt8 := dkwX6_feed_1 ++ dktX6_feed_2
def dkwX6_feed_0 : List UInt8 := [42, 42, 180, 0, 220, 16, 80, 160, 0, 7, 4, 167, 0, 4, 3, 181, 0, 73, 42, 180, 0, 73, 4]
abbrev dktX6_feed_0 : List UInt8 := dkwX6_feed_0 ++ dktX6_feed_1
theorem dksX6_feed_0 : cX6_feed.data.toList.drop 0 = dktX6_feed_0 := by decide +kernel
theorem dksX6_feed_1 : cX6_feed.data.toList.drop 23 = dktX6_feed_1 := dk_seg dksX6_feed_0 23 rfl rfl
theorem dksX6_feed_2 : cX6_feed.data.toList.drop 45 = dktX6_feed_2 := dk_seg dksX6_feed_1 22 rfl rfl
theorem dX6_feed_0 : decode cX6_feed 0 = .ok (.aload_n 0, 1) := dk_42 (dk_at dksX6_feed_0 0 rfl rfl)
theorem dX6_feed_1 : decode cX6_feed 1 = .ok (.aload_n 0, 1) := dk_42 (dk_at dksX6_feed_0 1 rfl rfl)
theorem dX6_feed_2 : decode cX6_feed 2 = .ok (.getfield 220, 3) := dk_180 0 220 (dk_at dksX6_feed_0 2 rfl rfl)
theorem dX6_feed_5 : decode cX6_feed 5 = .ok (.bipush 80, 2) := dk_16 80 (dk_at dksX6_feed_0 5 rfl rfl)
theorem dX6_feed_7 : decode cX6_feed 7 = .ok (.if_icmp .ne 7, 3) := dk_160 0 7 (dk_at dksX6_feed_0 7 rfl rfl)
theorem dX6_feed_10 : decode cX6_feed 10 = .ok (.iconst 1, 1) := dk_4 (dk_at dksX6_feed_0 10 rfl rfl)
theorem dX6_feed_11 : decode cX6_feed 11 = .ok (.goto 4, 3) := dk_167 0 4 (dk_at dksX6_feed_0 11 rfl rfl)
theorem dX6_feed_14 : decode cX6_feed 14 = .ok (.iconst 0, 1) := dk_3 (dk_at dksX6_feed_0 14 rfl rfl)
theorem dX6_feed_15 : decode cX6_feed 15 = .ok (.putfield 73, 3) := dk_181 0 73 (dk_at dksX6_feed_0 15 rfl rfl)
theorem dX6_feed_18 : decode cX6_feed 18 = .ok (.aload_n 0, 1) := dk_42 (dk_at dksX6_feed_0 18 rfl rfl)
theorem dX6_feed_19 : decode cX6_feed 19 = .ok (.getfield 73, 3) := dk_180 0 73 (dk_at dksX6_feed_0 19 rfl rfl)
theorem dX6_feed_22 : decode cX6_feed 22 = .ok (.iconst 1, 1) := dk_4 (dk_at dksX6_feed_0 22 rfl rfl)
theorem dX6_feed_23 : decode cX6_feed 23 = .ok (.if_icmp .ne 5, 3) := dk_160 0 5 (dk_at dksX6_feed_1 0 rfl rfl)
theorem dX6_feed_26 : decode cX6_feed 26 = .ok (.iconst 0, 1) := dk_3 (dk_at dksX6_feed_1 3 rfl rfl)
theorem dX6_feed_27 : decode cX6_feed 27 = .ok (.ireturn, 1) := dk_172 (dk_at dksX6_feed_1 4 rfl rfl)
theorem dX6_feed_28 : decode cX6_feed 28 = .ok (.aload_n 0, 1) := dk_42 (dk_at dksX6_feed_1 5 rfl rfl)
theorem dX6_feed_29 : decode cX6_feed 29 = .ok (.getfield 65, 3) := dk_180 0 65 (dk_at dksX6_feed_1 6 rfl rfl)
theorem dX6_feed_32 : decode cX6_feed 32 = .ok (.aload_n 0, 1) := dk_42 (dk_at dksX6_feed_1 9 rfl rfl)
theorem dX6_feed_33 : decode cX6_feed 33 = .ok (.getfield 220, 3) := dk_180 0 220 (dk_at dksX6_feed_1 10 rfl rfl)
theorem dX6_feed_36 : decode cX6_feed 36 = .ok (.iload_n 1, 1) := dk_27 (dk_at dksX6_feed_1 13 rfl rfl)
theorem dX6_feed_37 : decode cX6_feed 37 = .ok (.castore, 1) := dk_85 (dk_at dksX6_feed_1 14 rfl rfl)
theorem dX6_feed_38 : decode cX6_feed 38 = .ok (.aload_n 0, 1) := dk_42 (dk_at dksX6_feed_1 15 rfl rfl)
theorem dX6_feed_39 : decode cX6_feed 39 = .ok (.dup, 1) := dk_89 (dk_at dksX6_feed_1 16 rfl rfl)
theorem dX6_feed_40 : decode cX6_feed 40 = .ok (.getfield 220, 3) := dk_180 0 220 (dk_at dksX6_feed_1 17 rfl rfl)
theorem dX6_feed_43 : decode cX6_feed 43 = .ok (.iconst 1, 1) := dk_4 (dk_at dksX6_feed_1 20 rfl rfl)
theorem dX6_feed_44 : decode cX6_feed 44 = .ok (.iadd, 1) := dk_96 (dk_at dksX6_feed_1 21 rfl rfl)
theorem dX6_feed_45 : decode cX6_feed 45 = .ok (.putfield 220, 3) := dk_181 0 220 (dk_at dksX6_feed_2 0 rfl rfl)
theorem dX6_feed_48 : decode cX6_feed 48 = .ok (.aload_n 0, 1) := dk_42 (dk_at dksX6_feed_2 3 rfl rfl)
theorem dX6_feed_49 : decode cX6_feed 49 = .ok (.getfield 220, 3) := dk_180 0 220 (dk_at dksX6_feed_2 4 rfl rfl)
theorem dX6_feed_52 : decode cX6_feed 52 = .ok (.ireturn, 1) := dk_172 (dk_at dksX6_feed_2 7 rfl rfl)
abbrev cX6_readRecord : ByteArray := prog_14_method_64_code
def yX6_readRecord : MethodName := ⟨RX6, "readRecord", "()I"⟩
def dkwX6_readRecord_5 : List UInt8 := [16, 156, 29, 100, 167, 0, 16, 42, 180, 0, 73, 4, 160, 0, 7, 3, 167, 0, 4, 28, 172]
abbrev dktX6_readRecord_5 : List UInt8 := dkwX6_readRecord_5 ++ []
def dkwX6_readRecord_4 : List UInt8 := [154, 0, 8, 42, 4, 181, 0, 73, 132, 4, 1, 167, 255, 204, 42, 3, 181, 0, 220, 27, 154, 0, 10]
abbrev dktX6_readRecord_4 : List UInt8 := dkwX6_readRecord_4 ++ dktX6_readRecord_5
def dkwX6_readRecord_3 : List UInt8 := [42, 182, 0, 239, 60, 42, 182, 0, 170, 154, 0, 18, 42, 42, 180, 0, 233, 42, 180, 0, 236, 182, 0, 174]
abbrev dktX6_readRecord_3 : List UInt8 := dkwX6_readRecord_3 ++ dktX6_readRecord_4
def dkwX6_readRecord_2 : List UInt8 := [3, 181, 0, 223, 3, 54, 4, 21, 4, 28, 162, 0, 52, 27, 153, 0, 48, 42, 180, 0, 73, 154, 0, 41]
abbrev dktX6_readRecord_2 : List UInt8 := dkwX6_readRecord_2 ++ dktX6_readRecord_3
def dkwX6_readRecord_1 : List UInt8 := [162, 0, 18, 27, 153, 0, 14, 42, 182, 0, 239, 60, 132, 2, 1, 167, 255, 233, 42, 180, 0, 223, 62, 42]
abbrev dktX6_readRecord_1 : List UInt8 := dkwX6_readRecord_1 ++ dktX6_readRecord_2
def dkwX6_readRecord_0 : List UInt8 := [42, 3, 181, 0, 73, 42, 3, 181, 0, 223, 4, 60, 3, 61, 42, 180, 0, 223, 42, 180, 0, 220]
abbrev dktX6_readRecord_0 : List UInt8 := dkwX6_readRecord_0 ++ dktX6_readRecord_1
theorem dksX6_readRecord_0 : cX6_readRecord.data.toList.drop 0 = dktX6_readRecord_0 := by decide +kernel
theorem dksX6_readRecord_1 : cX6_readRecord.data.toList.drop 22 = dktX6_readRecord_1 := dk_seg dksX6_readRecord_0 22 rfl rfl
theorem dksX6_readRecord_2 : cX6_readRecord.data.toList.drop 46 = dktX6_readRecord_2 := dk_seg dksX6_readRecord_1 24 rfl rfl
theorem dksX6_readRecord_3 : cX6_readRecord.data.toList.drop 70 = dktX6_readRecord_3 := dk_seg dksX6_readRecord_2 24 rfl rfl
theorem dksX6_readRecord_4 : cX6_readRecord.data.toList.drop 94 = dktX6_readRecord_4 := dk_seg dksX6_readRecord_3 24 rfl rfl
theorem dksX6_readRecord_5 : cX6_readRecord.data.toList.drop 117 = dktX6_readRecord_5 := dk_seg dksX6_readRecord_4 23 rfl rfl
theorem dX6_readRecord_0 : decode cX6_readRecord 0 = .ok (.aload_n 0, 1) := dk_42 (dk_at dksX6_readRecord_0 0 rfl rfl)
theorem dX6_readRecord_1 : decode cX6_readRecord 1 = .ok (.iconst 0, 1) := dk_3 (dk_at dksX6_readRecord_0 1 rfl rfl)
theorem dX6_readRecord_2 : decode cX6_readRecord 2 = .ok (.putfield 73, 3) := dk_181 0 73 (dk_at dksX6_readRecord_0 2 rfl rfl)
theorem dX6_readRecord_5 : decode cX6_readRecord 5 = .ok (.aload_n 0, 1) := dk_42 (dk_at dksX6_readRecord_0 5 rfl rfl)
theorem dX6_readRecord_6 : decode cX6_readRecord 6 = .ok (.iconst 0, 1) := dk_3 (dk_at dksX6_readRecord_0 6 rfl rfl)
theorem dX6_readRecord_7 : decode cX6_readRecord 7 = .ok (.putfield 223, 3) := dk_181 0 223 (dk_at dksX6_readRecord_0 7 rfl rfl)
theorem dX6_readRecord_10 : decode cX6_readRecord 10 = .ok (.iconst 1, 1) := dk_4 (dk_at dksX6_readRecord_0 10 rfl rfl)
theorem dX6_readRecord_11 : decode cX6_readRecord 11 = .ok (.istore_n 1, 1) := dk_60 (dk_at dksX6_readRecord_0 11 rfl rfl)
theorem dX6_readRecord_12 : decode cX6_readRecord 12 = .ok (.iconst 0, 1) := dk_3 (dk_at dksX6_readRecord_0 12 rfl rfl)
theorem dX6_readRecord_13 : decode cX6_readRecord 13 = .ok (.istore_n 2, 1) := dk_61 (dk_at dksX6_readRecord_0 13 rfl rfl)
theorem dX6_readRecord_14 : decode cX6_readRecord 14 = .ok (.aload_n 0, 1) := dk_42 (dk_at dksX6_readRecord_0 14 rfl rfl)
theorem dX6_readRecord_15 : decode cX6_readRecord 15 = .ok (.getfield 223, 3) := dk_180 0 223 (dk_at dksX6_readRecord_0 15 rfl rfl)
theorem dX6_readRecord_18 : decode cX6_readRecord 18 = .ok (.aload_n 0, 1) := dk_42 (dk_at dksX6_readRecord_0 18 rfl rfl)
theorem dX6_readRecord_19 : decode cX6_readRecord 19 = .ok (.getfield 220, 3) := dk_180 0 220 (dk_at dksX6_readRecord_0 19 rfl rfl)
theorem dX6_readRecord_22 : decode cX6_readRecord 22 = .ok (.if_icmp .ge 18, 3) := dk_162 0 18 (dk_at dksX6_readRecord_1 0 rfl rfl)
theorem dX6_readRecord_25 : decode cX6_readRecord 25 = .ok (.iload_n 1, 1) := dk_27 (dk_at dksX6_readRecord_1 3 rfl rfl)
theorem dX6_readRecord_26 : decode cX6_readRecord 26 = .ok (.ifCond .eq 14, 3) := dk_153 0 14 (dk_at dksX6_readRecord_1 4 rfl rfl)
theorem dX6_readRecord_29 : decode cX6_readRecord 29 = .ok (.aload_n 0, 1) := dk_42 (dk_at dksX6_readRecord_1 7 rfl rfl)
theorem dX6_readRecord_30 : decode cX6_readRecord 30 = .ok (.invokevirtual 239, 3) := dk_182 0 239 (dk_at dksX6_readRecord_1 8 rfl rfl)
theorem dX6_readRecord_33 : decode cX6_readRecord 33 = .ok (.istore_n 1, 1) := dk_60 (dk_at dksX6_readRecord_1 11 rfl rfl)
theorem dX6_readRecord_34 : decode cX6_readRecord 34 = .ok (.iinc 2 1, 3) := dk_132 2 1 (dk_at dksX6_readRecord_1 12 rfl rfl)
theorem dX6_readRecord_37 : decode cX6_readRecord 37 = .ok (.goto (-23), 3) := dk_167 255 233 (dk_at dksX6_readRecord_1 15 rfl rfl)
theorem dX6_readRecord_40 : decode cX6_readRecord 40 = .ok (.aload_n 0, 1) := dk_42 (dk_at dksX6_readRecord_1 18 rfl rfl)
theorem dX6_readRecord_41 : decode cX6_readRecord 41 = .ok (.getfield 223, 3) := dk_180 0 223 (dk_at dksX6_readRecord_1 19 rfl rfl)
theorem dX6_readRecord_44 : decode cX6_readRecord 44 = .ok (.istore_n 3, 1) := dk_62 (dk_at dksX6_readRecord_1 22 rfl rfl)
theorem dX6_readRecord_45 : decode cX6_readRecord 45 = .ok (.aload_n 0, 1) := dk_42 (dk_at dksX6_readRecord_1 23 rfl rfl)
theorem dX6_readRecord_46 : decode cX6_readRecord 46 = .ok (.iconst 0, 1) := dk_3 (dk_at dksX6_readRecord_2 0 rfl rfl)
theorem dX6_readRecord_47 : decode cX6_readRecord 47 = .ok (.putfield 223, 3) := dk_181 0 223 (dk_at dksX6_readRecord_2 1 rfl rfl)
theorem dX6_readRecord_50 : decode cX6_readRecord 50 = .ok (.iconst 0, 1) := dk_3 (dk_at dksX6_readRecord_2 4 rfl rfl)
theorem dX6_readRecord_51 : decode cX6_readRecord 51 = .ok (.istore 4, 2) := dk_54 4 (dk_at dksX6_readRecord_2 5 rfl rfl)
theorem dX6_readRecord_53 : decode cX6_readRecord 53 = .ok (.iload 4, 2) := dk_21 4 (dk_at dksX6_readRecord_2 7 rfl rfl)
theorem dX6_readRecord_55 : decode cX6_readRecord 55 = .ok (.iload_n 2, 1) := dk_28 (dk_at dksX6_readRecord_2 9 rfl rfl)
theorem dX6_readRecord_56 : decode cX6_readRecord 56 = .ok (.if_icmp .ge 52, 3) := dk_162 0 52 (dk_at dksX6_readRecord_2 10 rfl rfl)
theorem dX6_readRecord_59 : decode cX6_readRecord 59 = .ok (.iload_n 1, 1) := dk_27 (dk_at dksX6_readRecord_2 13 rfl rfl)
theorem dX6_readRecord_60 : decode cX6_readRecord 60 = .ok (.ifCond .eq 48, 3) := dk_153 0 48 (dk_at dksX6_readRecord_2 14 rfl rfl)
theorem dX6_readRecord_63 : decode cX6_readRecord 63 = .ok (.aload_n 0, 1) := dk_42 (dk_at dksX6_readRecord_2 17 rfl rfl)
theorem dX6_readRecord_64 : decode cX6_readRecord 64 = .ok (.getfield 73, 3) := dk_180 0 73 (dk_at dksX6_readRecord_2 18 rfl rfl)
theorem dX6_readRecord_67 : decode cX6_readRecord 67 = .ok (.ifCond .ne 41, 3) := dk_154 0 41 (dk_at dksX6_readRecord_2 21 rfl rfl)
theorem dX6_readRecord_70 : decode cX6_readRecord 70 = .ok (.aload_n 0, 1) := dk_42 (dk_at dksX6_readRecord_3 0 rfl rfl)
theorem dX6_readRecord_71 : decode cX6_readRecord 71 = .ok (.invokevirtual 239, 3) := dk_182 0 239 (dk_at dksX6_readRecord_3 1 rfl rfl)
theorem dX6_readRecord_74 : decode cX6_readRecord 74 = .ok (.istore_n 1, 1) := dk_60 (dk_at dksX6_readRecord_3 4 rfl rfl)
theorem dX6_readRecord_75 : decode cX6_readRecord 75 = .ok (.aload_n 0, 1) := dk_42 (dk_at dksX6_readRecord_3 5 rfl rfl)
theorem dX6_readRecord_76 : decode cX6_readRecord 76 = .ok (.invokevirtual 170, 3) := dk_182 0 170 (dk_at dksX6_readRecord_3 6 rfl rfl)
theorem dX6_readRecord_79 : decode cX6_readRecord 79 = .ok (.ifCond .ne 18, 3) := dk_154 0 18 (dk_at dksX6_readRecord_3 9 rfl rfl)
theorem dX6_readRecord_82 : decode cX6_readRecord 82 = .ok (.aload_n 0, 1) := dk_42 (dk_at dksX6_readRecord_3 12 rfl rfl)
theorem dX6_readRecord_83 : decode cX6_readRecord 83 = .ok (.aload_n 0, 1) := dk_42 (dk_at dksX6_readRecord_3 13 rfl rfl)
theorem dX6_readRecord_84 : decode cX6_readRecord 84 = .ok (.getfield 233, 3) := dk_180 0 233 (dk_at dksX6_readRecord_3 14 rfl rfl)
theorem dX6_readRecord_87 : decode cX6_readRecord 87 = .ok (.aload_n 0, 1) := dk_42 (dk_at dksX6_readRecord_3 17 rfl rfl)
theorem dX6_readRecord_88 : decode cX6_readRecord 88 = .ok (.getfield 236, 3) := dk_180 0 236 (dk_at dksX6_readRecord_3 18 rfl rfl)
theorem dX6_readRecord_91 : decode cX6_readRecord 91 = .ok (.invokevirtual 174, 3) := dk_182 0 174 (dk_at dksX6_readRecord_3 21 rfl rfl)
theorem dX6_readRecord_94 : decode cX6_readRecord 94 = .ok (.ifCond .ne 8, 3) := dk_154 0 8 (dk_at dksX6_readRecord_4 0 rfl rfl)
theorem dX6_readRecord_97 : decode cX6_readRecord 97 = .ok (.aload_n 0, 1) := dk_42 (dk_at dksX6_readRecord_4 3 rfl rfl)
theorem dX6_readRecord_98 : decode cX6_readRecord 98 = .ok (.iconst 1, 1) := dk_4 (dk_at dksX6_readRecord_4 4 rfl rfl)
theorem dX6_readRecord_99 : decode cX6_readRecord 99 = .ok (.putfield 73, 3) := dk_181 0 73 (dk_at dksX6_readRecord_4 5 rfl rfl)
theorem dX6_readRecord_102 : decode cX6_readRecord 102 = .ok (.iinc 4 1, 3) := dk_132 4 1 (dk_at dksX6_readRecord_4 8 rfl rfl)
theorem dX6_readRecord_105 : decode cX6_readRecord 105 = .ok (.goto (-52), 3) := dk_167 255 204 (dk_at dksX6_readRecord_4 11 rfl rfl)
theorem dX6_readRecord_108 : decode cX6_readRecord 108 = .ok (.aload_n 0, 1) := dk_42 (dk_at dksX6_readRecord_4 14 rfl rfl)
theorem dX6_readRecord_109 : decode cX6_readRecord 109 = .ok (.iconst 0, 1) := dk_3 (dk_at dksX6_readRecord_4 15 rfl rfl)
theorem dX6_readRecord_110 : decode cX6_readRecord 110 = .ok (.putfield 220, 3) := dk_181 0 220 (dk_at dksX6_readRecord_4 16 rfl rfl)
theorem dX6_readRecord_113 : decode cX6_readRecord 113 = .ok (.iload_n 1, 1) := dk_27 (dk_at dksX6_readRecord_4 19 rfl rfl)
theorem dX6_readRecord_114 : decode cX6_readRecord 114 = .ok (.ifCond .ne 10, 3) := dk_154 0 10 (dk_at dksX6_readRecord_4 20 rfl rfl)
theorem dX6_readRecord_117 : decode cX6_readRecord 117 = .ok (.bipush (-100), 2) := dk_16 156 (dk_at dksX6_readRecord_5 0 rfl rfl)
theorem dX6_readRecord_119 : decode cX6_readRecord 119 = .ok (.iload_n 3, 1) := dk_29 (dk_at dksX6_readRecord_5 2 rfl rfl)
theorem dX6_readRecord_120 : decode cX6_readRecord 120 = .ok (.isub, 1) := dk_100 (dk_at dksX6_readRecord_5 3 rfl rfl)
theorem dX6_readRecord_121 : decode cX6_readRecord 121 = .ok (.goto 16, 3) := dk_167 0 16 (dk_at dksX6_readRecord_5 4 rfl rfl)
theorem dX6_readRecord_124 : decode cX6_readRecord 124 = .ok (.aload_n 0, 1) := dk_42 (dk_at dksX6_readRecord_5 7 rfl rfl)
theorem dX6_readRecord_125 : decode cX6_readRecord 125 = .ok (.getfield 73, 3) := dk_180 0 73 (dk_at dksX6_readRecord_5 8 rfl rfl)
theorem dX6_readRecord_128 : decode cX6_readRecord 128 = .ok (.iconst 1, 1) := dk_4 (dk_at dksX6_readRecord_5 11 rfl rfl)
theorem dX6_readRecord_129 : decode cX6_readRecord 129 = .ok (.if_icmp .ne 7, 3) := dk_160 0 7 (dk_at dksX6_readRecord_5 12 rfl rfl)
theorem dX6_readRecord_132 : decode cX6_readRecord 132 = .ok (.iconst 0, 1) := dk_3 (dk_at dksX6_readRecord_5 15 rfl rfl)
theorem dX6_readRecord_133 : decode cX6_readRecord 133 = .ok (.goto 4, 3) := dk_167 0 4 (dk_at dksX6_readRecord_5 16 rfl rfl)
theorem dX6_readRecord_136 : decode cX6_readRecord 136 = .ok (.iload_n 2, 1) := dk_28 (dk_at dksX6_readRecord_5 19 rfl rfl)
theorem dX6_readRecord_137 : decode cX6_readRecord 137 = .ok (.ireturn, 1) := dk_172 (dk_at dksX6_readRecord_5 20 rfl rfl)
abbrev cX6_isRound : ByteArray := prog_14_method_63_code
def yX6_isRound : MethodName := ⟨RX6, "isRound", "()Z"⟩
def dkwX6_isRound_2 : List UInt8 := [172, 42, 89, 180, 0, 223, 4, 96, 181, 0, 223, 4, 172]
abbrev dktX6_isRound_2 : List UInt8 := dkwX6_isRound_2 ++ []
def dkwX6_isRound_1 : List UInt8 := [181, 0, 236, 42, 180, 0, 236, 16, 254, 159, 0, 14, 42, 16, 59, 16, 59, 182, 0, 226, 154, 0, 5, 3]
abbrev dktX6_isRound_1 : List UInt8 := dkwX6_isRound_1 ++ dktX6_isRound_2
def dkwX6_isRound_0 : List UInt8 := [42, 42, 182, 0, 230, 181, 0, 233, 42, 180, 0, 233, 16, 254, 160, 0, 5, 3, 172, 42, 42, 182, 0, 230]
abbrev dktX6_isRound_0 : List UInt8 := dkwX6_isRound_0 ++ dktX6_isRound_1
theorem dksX6_isRound_0 : cX6_isRound.data.toList.drop 0 = dktX6_isRound_0 := by decide +kernel
theorem dksX6_isRound_1 : cX6_isRound.data.toList.drop 24 = dktX6_isRound_1 := dk_seg dksX6_isRound_0 24 rfl rfl
theorem dksX6_isRound_2 : cX6_isRound.data.toList.drop 48 = dktX6_isRound_2 := dk_seg dksX6_isRound_1 24 rfl rfl
theorem dX6_isRound_0 : decode cX6_isRound 0 = .ok (.aload_n 0, 1) := dk_42 (dk_at dksX6_isRound_0 0 rfl rfl)
theorem dX6_isRound_1 : decode cX6_isRound 1 = .ok (.aload_n 0, 1) := dk_42 (dk_at dksX6_isRound_0 1 rfl rfl)
theorem dX6_isRound_2 : decode cX6_isRound 2 = .ok (.invokevirtual 230, 3) := dk_182 0 230 (dk_at dksX6_isRound_0 2 rfl rfl)
theorem dX6_isRound_5 : decode cX6_isRound 5 = .ok (.putfield 233, 3) := dk_181 0 233 (dk_at dksX6_isRound_0 5 rfl rfl)
theorem dX6_isRound_8 : decode cX6_isRound 8 = .ok (.aload_n 0, 1) := dk_42 (dk_at dksX6_isRound_0 8 rfl rfl)
theorem dX6_isRound_9 : decode cX6_isRound 9 = .ok (.getfield 233, 3) := dk_180 0 233 (dk_at dksX6_isRound_0 9 rfl rfl)
theorem dX6_isRound_12 : decode cX6_isRound 12 = .ok (.bipush (-2), 2) := dk_16 254 (dk_at dksX6_isRound_0 12 rfl rfl)
theorem dX6_isRound_14 : decode cX6_isRound 14 = .ok (.if_icmp .ne 5, 3) := dk_160 0 5 (dk_at dksX6_isRound_0 14 rfl rfl)
theorem dX6_isRound_17 : decode cX6_isRound 17 = .ok (.iconst 0, 1) := dk_3 (dk_at dksX6_isRound_0 17 rfl rfl)
theorem dX6_isRound_18 : decode cX6_isRound 18 = .ok (.ireturn, 1) := dk_172 (dk_at dksX6_isRound_0 18 rfl rfl)
theorem dX6_isRound_19 : decode cX6_isRound 19 = .ok (.aload_n 0, 1) := dk_42 (dk_at dksX6_isRound_0 19 rfl rfl)
theorem dX6_isRound_20 : decode cX6_isRound 20 = .ok (.aload_n 0, 1) := dk_42 (dk_at dksX6_isRound_0 20 rfl rfl)
theorem dX6_isRound_21 : decode cX6_isRound 21 = .ok (.invokevirtual 230, 3) := dk_182 0 230 (dk_at dksX6_isRound_0 21 rfl rfl)
theorem dX6_isRound_24 : decode cX6_isRound 24 = .ok (.putfield 236, 3) := dk_181 0 236 (dk_at dksX6_isRound_1 0 rfl rfl)
theorem dX6_isRound_27 : decode cX6_isRound 27 = .ok (.aload_n 0, 1) := dk_42 (dk_at dksX6_isRound_1 3 rfl rfl)
theorem dX6_isRound_28 : decode cX6_isRound 28 = .ok (.getfield 236, 3) := dk_180 0 236 (dk_at dksX6_isRound_1 4 rfl rfl)
theorem dX6_isRound_31 : decode cX6_isRound 31 = .ok (.bipush (-2), 2) := dk_16 254 (dk_at dksX6_isRound_1 7 rfl rfl)
theorem dX6_isRound_33 : decode cX6_isRound 33 = .ok (.if_icmp .eq 14, 3) := dk_159 0 14 (dk_at dksX6_isRound_1 9 rfl rfl)
theorem dX6_isRound_36 : decode cX6_isRound 36 = .ok (.aload_n 0, 1) := dk_42 (dk_at dksX6_isRound_1 12 rfl rfl)
theorem dX6_isRound_37 : decode cX6_isRound 37 = .ok (.bipush 59, 2) := dk_16 59 (dk_at dksX6_isRound_1 13 rfl rfl)
theorem dX6_isRound_39 : decode cX6_isRound 39 = .ok (.bipush 59, 2) := dk_16 59 (dk_at dksX6_isRound_1 15 rfl rfl)
theorem dX6_isRound_41 : decode cX6_isRound 41 = .ok (.invokevirtual 226, 3) := dk_182 0 226 (dk_at dksX6_isRound_1 17 rfl rfl)
theorem dX6_isRound_44 : decode cX6_isRound 44 = .ok (.ifCond .ne 5, 3) := dk_154 0 5 (dk_at dksX6_isRound_1 20 rfl rfl)
theorem dX6_isRound_47 : decode cX6_isRound 47 = .ok (.iconst 0, 1) := dk_3 (dk_at dksX6_isRound_1 23 rfl rfl)
theorem dX6_isRound_48 : decode cX6_isRound 48 = .ok (.ireturn, 1) := dk_172 (dk_at dksX6_isRound_2 0 rfl rfl)
theorem dX6_isRound_49 : decode cX6_isRound 49 = .ok (.aload_n 0, 1) := dk_42 (dk_at dksX6_isRound_2 1 rfl rfl)
theorem dX6_isRound_50 : decode cX6_isRound 50 = .ok (.dup, 1) := dk_89 (dk_at dksX6_isRound_2 2 rfl rfl)
theorem dX6_isRound_51 : decode cX6_isRound 51 = .ok (.getfield 223, 3) := dk_180 0 223 (dk_at dksX6_isRound_2 3 rfl rfl)
theorem dX6_isRound_54 : decode cX6_isRound 54 = .ok (.iconst 1, 1) := dk_4 (dk_at dksX6_isRound_2 6 rfl rfl)
theorem dX6_isRound_55 : decode cX6_isRound 55 = .ok (.iadd, 1) := dk_96 (dk_at dksX6_isRound_2 7 rfl rfl)
theorem dX6_isRound_56 : decode cX6_isRound 56 = .ok (.putfield 223, 3) := dk_181 0 223 (dk_at dksX6_isRound_2 8 rfl rfl)
theorem dX6_isRound_59 : decode cX6_isRound 59 = .ok (.iconst 1, 1) := dk_4 (dk_at dksX6_isRound_2 11 rfl rfl)
theorem dX6_isRound_60 : decode cX6_isRound 60 = .ok (.ireturn, 1) := dk_172 (dk_at dksX6_isRound_2 12 rfl rfl)
abbrev cX6_choice : ByteArray := prog_14_method_62_code
def yX6_choice : MethodName := ⟨RX6, "choice", "()I"⟩
def dkwX6_choice_5 : List UInt8 := [27, 96, 172]
abbrev dktX6_choice_5 : List UInt8 := dkwX6_choice_5 ++ []
def dkwX6_choice_4 : List UInt8 := [180, 0, 223, 52, 16, 49, 100, 61, 42, 89, 180, 0, 223, 4, 96, 181, 0, 223, 28, 42, 180, 0, 9, 104]
abbrev dktX6_choice_4 : List UInt8 := dkwX6_choice_4 ++ dktX6_choice_5
def dkwX6_choice_3 : List UInt8 := [16, 49, 16, 48, 42, 180, 0, 13, 96, 146, 182, 0, 226, 154, 0, 6, 16, 254, 172, 42, 180, 0, 65, 42]
abbrev dktX6_choice_3 : List UInt8 := dkwX6_choice_3 ++ dktX6_choice_4
def dkwX6_choice_2 : List UInt8 := [180, 0, 65, 42, 180, 0, 223, 52, 16, 97, 100, 60, 42, 89, 180, 0, 223, 4, 96, 181, 0, 223, 42]
abbrev dktX6_choice_2 : List UInt8 := dkwX6_choice_2 ++ dktX6_choice_3
def dkwX6_choice_1 : List UInt8 := [16, 97, 16, 97, 42, 180, 0, 9, 96, 4, 100, 146, 182, 0, 226, 154, 0, 6, 16, 254, 172, 42]
abbrev dktX6_choice_1 : List UInt8 := dkwX6_choice_1 ++ dktX6_choice_2
def dkwX6_choice_0 : List UInt8 := [42, 16, 45, 16, 45, 182, 0, 226, 153, 0, 15, 42, 89, 180, 0, 223, 4, 96, 181, 0, 223, 2, 172, 42]
abbrev dktX6_choice_0 : List UInt8 := dkwX6_choice_0 ++ dktX6_choice_1
theorem dksX6_choice_0 : cX6_choice.data.toList.drop 0 = dktX6_choice_0 := by decide +kernel
theorem dksX6_choice_1 : cX6_choice.data.toList.drop 24 = dktX6_choice_1 := dk_seg dksX6_choice_0 24 rfl rfl
theorem dksX6_choice_2 : cX6_choice.data.toList.drop 46 = dktX6_choice_2 := dk_seg dksX6_choice_1 22 rfl rfl
theorem dksX6_choice_3 : cX6_choice.data.toList.drop 69 = dktX6_choice_3 := dk_seg dksX6_choice_2 23 rfl rfl
theorem dksX6_choice_4 : cX6_choice.data.toList.drop 93 = dktX6_choice_4 := dk_seg dksX6_choice_3 24 rfl rfl
theorem dksX6_choice_5 : cX6_choice.data.toList.drop 117 = dktX6_choice_5 := dk_seg dksX6_choice_4 24 rfl rfl
theorem dX6_choice_0 : decode cX6_choice 0 = .ok (.aload_n 0, 1) := dk_42 (dk_at dksX6_choice_0 0 rfl rfl)
theorem dX6_choice_1 : decode cX6_choice 1 = .ok (.bipush 45, 2) := dk_16 45 (dk_at dksX6_choice_0 1 rfl rfl)
theorem dX6_choice_3 : decode cX6_choice 3 = .ok (.bipush 45, 2) := dk_16 45 (dk_at dksX6_choice_0 3 rfl rfl)
theorem dX6_choice_5 : decode cX6_choice 5 = .ok (.invokevirtual 226, 3) := dk_182 0 226 (dk_at dksX6_choice_0 5 rfl rfl)
theorem dX6_choice_8 : decode cX6_choice 8 = .ok (.ifCond .eq 15, 3) := dk_153 0 15 (dk_at dksX6_choice_0 8 rfl rfl)
theorem dX6_choice_11 : decode cX6_choice 11 = .ok (.aload_n 0, 1) := dk_42 (dk_at dksX6_choice_0 11 rfl rfl)
theorem dX6_choice_12 : decode cX6_choice 12 = .ok (.dup, 1) := dk_89 (dk_at dksX6_choice_0 12 rfl rfl)
theorem dX6_choice_13 : decode cX6_choice 13 = .ok (.getfield 223, 3) := dk_180 0 223 (dk_at dksX6_choice_0 13 rfl rfl)
theorem dX6_choice_16 : decode cX6_choice 16 = .ok (.iconst 1, 1) := dk_4 (dk_at dksX6_choice_0 16 rfl rfl)
theorem dX6_choice_17 : decode cX6_choice 17 = .ok (.iadd, 1) := dk_96 (dk_at dksX6_choice_0 17 rfl rfl)
theorem dX6_choice_18 : decode cX6_choice 18 = .ok (.putfield 223, 3) := dk_181 0 223 (dk_at dksX6_choice_0 18 rfl rfl)
theorem dX6_choice_21 : decode cX6_choice 21 = .ok (.iconst (-1), 1) := dk_2 (dk_at dksX6_choice_0 21 rfl rfl)
theorem dX6_choice_22 : decode cX6_choice 22 = .ok (.ireturn, 1) := dk_172 (dk_at dksX6_choice_0 22 rfl rfl)
theorem dX6_choice_23 : decode cX6_choice 23 = .ok (.aload_n 0, 1) := dk_42 (dk_at dksX6_choice_0 23 rfl rfl)
theorem dX6_choice_24 : decode cX6_choice 24 = .ok (.bipush 97, 2) := dk_16 97 (dk_at dksX6_choice_1 0 rfl rfl)
theorem dX6_choice_26 : decode cX6_choice 26 = .ok (.bipush 97, 2) := dk_16 97 (dk_at dksX6_choice_1 2 rfl rfl)
theorem dX6_choice_28 : decode cX6_choice 28 = .ok (.aload_n 0, 1) := dk_42 (dk_at dksX6_choice_1 4 rfl rfl)
theorem dX6_choice_29 : decode cX6_choice 29 = .ok (.getfield 9, 3) := dk_180 0 9 (dk_at dksX6_choice_1 5 rfl rfl)
theorem dX6_choice_32 : decode cX6_choice 32 = .ok (.iadd, 1) := dk_96 (dk_at dksX6_choice_1 8 rfl rfl)
theorem dX6_choice_33 : decode cX6_choice 33 = .ok (.iconst 1, 1) := dk_4 (dk_at dksX6_choice_1 9 rfl rfl)
theorem dX6_choice_34 : decode cX6_choice 34 = .ok (.isub, 1) := dk_100 (dk_at dksX6_choice_1 10 rfl rfl)
theorem dX6_choice_35 : decode cX6_choice 35 = .ok (.i2c, 1) := dk_146 (dk_at dksX6_choice_1 11 rfl rfl)
theorem dX6_choice_36 : decode cX6_choice 36 = .ok (.invokevirtual 226, 3) := dk_182 0 226 (dk_at dksX6_choice_1 12 rfl rfl)
theorem dX6_choice_39 : decode cX6_choice 39 = .ok (.ifCond .ne 6, 3) := dk_154 0 6 (dk_at dksX6_choice_1 15 rfl rfl)
theorem dX6_choice_42 : decode cX6_choice 42 = .ok (.bipush (-2), 2) := dk_16 254 (dk_at dksX6_choice_1 18 rfl rfl)
theorem dX6_choice_44 : decode cX6_choice 44 = .ok (.ireturn, 1) := dk_172 (dk_at dksX6_choice_1 20 rfl rfl)
theorem dX6_choice_45 : decode cX6_choice 45 = .ok (.aload_n 0, 1) := dk_42 (dk_at dksX6_choice_1 21 rfl rfl)
theorem dX6_choice_46 : decode cX6_choice 46 = .ok (.getfield 65, 3) := dk_180 0 65 (dk_at dksX6_choice_2 0 rfl rfl)
theorem dX6_choice_49 : decode cX6_choice 49 = .ok (.aload_n 0, 1) := dk_42 (dk_at dksX6_choice_2 3 rfl rfl)
theorem dX6_choice_50 : decode cX6_choice 50 = .ok (.getfield 223, 3) := dk_180 0 223 (dk_at dksX6_choice_2 4 rfl rfl)
theorem dX6_choice_53 : decode cX6_choice 53 = .ok (.caload, 1) := dk_52 (dk_at dksX6_choice_2 7 rfl rfl)
theorem dX6_choice_54 : decode cX6_choice 54 = .ok (.bipush 97, 2) := dk_16 97 (dk_at dksX6_choice_2 8 rfl rfl)
theorem dX6_choice_56 : decode cX6_choice 56 = .ok (.isub, 1) := dk_100 (dk_at dksX6_choice_2 10 rfl rfl)
theorem dX6_choice_57 : decode cX6_choice 57 = .ok (.istore_n 1, 1) := dk_60 (dk_at dksX6_choice_2 11 rfl rfl)
theorem dX6_choice_58 : decode cX6_choice 58 = .ok (.aload_n 0, 1) := dk_42 (dk_at dksX6_choice_2 12 rfl rfl)
theorem dX6_choice_59 : decode cX6_choice 59 = .ok (.dup, 1) := dk_89 (dk_at dksX6_choice_2 13 rfl rfl)
theorem dX6_choice_60 : decode cX6_choice 60 = .ok (.getfield 223, 3) := dk_180 0 223 (dk_at dksX6_choice_2 14 rfl rfl)
theorem dX6_choice_63 : decode cX6_choice 63 = .ok (.iconst 1, 1) := dk_4 (dk_at dksX6_choice_2 17 rfl rfl)
theorem dX6_choice_64 : decode cX6_choice 64 = .ok (.iadd, 1) := dk_96 (dk_at dksX6_choice_2 18 rfl rfl)
theorem dX6_choice_65 : decode cX6_choice 65 = .ok (.putfield 223, 3) := dk_181 0 223 (dk_at dksX6_choice_2 19 rfl rfl)
theorem dX6_choice_68 : decode cX6_choice 68 = .ok (.aload_n 0, 1) := dk_42 (dk_at dksX6_choice_2 22 rfl rfl)
theorem dX6_choice_69 : decode cX6_choice 69 = .ok (.bipush 49, 2) := dk_16 49 (dk_at dksX6_choice_3 0 rfl rfl)
theorem dX6_choice_71 : decode cX6_choice 71 = .ok (.bipush 48, 2) := dk_16 48 (dk_at dksX6_choice_3 2 rfl rfl)
theorem dX6_choice_73 : decode cX6_choice 73 = .ok (.aload_n 0, 1) := dk_42 (dk_at dksX6_choice_3 4 rfl rfl)
theorem dX6_choice_74 : decode cX6_choice 74 = .ok (.getfield 13, 3) := dk_180 0 13 (dk_at dksX6_choice_3 5 rfl rfl)
theorem dX6_choice_77 : decode cX6_choice 77 = .ok (.iadd, 1) := dk_96 (dk_at dksX6_choice_3 8 rfl rfl)
theorem dX6_choice_78 : decode cX6_choice 78 = .ok (.i2c, 1) := dk_146 (dk_at dksX6_choice_3 9 rfl rfl)
theorem dX6_choice_79 : decode cX6_choice 79 = .ok (.invokevirtual 226, 3) := dk_182 0 226 (dk_at dksX6_choice_3 10 rfl rfl)
theorem dX6_choice_82 : decode cX6_choice 82 = .ok (.ifCond .ne 6, 3) := dk_154 0 6 (dk_at dksX6_choice_3 13 rfl rfl)
theorem dX6_choice_85 : decode cX6_choice 85 = .ok (.bipush (-2), 2) := dk_16 254 (dk_at dksX6_choice_3 16 rfl rfl)
theorem dX6_choice_87 : decode cX6_choice 87 = .ok (.ireturn, 1) := dk_172 (dk_at dksX6_choice_3 18 rfl rfl)
theorem dX6_choice_88 : decode cX6_choice 88 = .ok (.aload_n 0, 1) := dk_42 (dk_at dksX6_choice_3 19 rfl rfl)
theorem dX6_choice_89 : decode cX6_choice 89 = .ok (.getfield 65, 3) := dk_180 0 65 (dk_at dksX6_choice_3 20 rfl rfl)
theorem dX6_choice_92 : decode cX6_choice 92 = .ok (.aload_n 0, 1) := dk_42 (dk_at dksX6_choice_3 23 rfl rfl)
theorem dX6_choice_93 : decode cX6_choice 93 = .ok (.getfield 223, 3) := dk_180 0 223 (dk_at dksX6_choice_4 0 rfl rfl)
theorem dX6_choice_96 : decode cX6_choice 96 = .ok (.caload, 1) := dk_52 (dk_at dksX6_choice_4 3 rfl rfl)
theorem dX6_choice_97 : decode cX6_choice 97 = .ok (.bipush 49, 2) := dk_16 49 (dk_at dksX6_choice_4 4 rfl rfl)
theorem dX6_choice_99 : decode cX6_choice 99 = .ok (.isub, 1) := dk_100 (dk_at dksX6_choice_4 6 rfl rfl)
theorem dX6_choice_100 : decode cX6_choice 100 = .ok (.istore_n 2, 1) := dk_61 (dk_at dksX6_choice_4 7 rfl rfl)
theorem dX6_choice_101 : decode cX6_choice 101 = .ok (.aload_n 0, 1) := dk_42 (dk_at dksX6_choice_4 8 rfl rfl)
theorem dX6_choice_102 : decode cX6_choice 102 = .ok (.dup, 1) := dk_89 (dk_at dksX6_choice_4 9 rfl rfl)
theorem dX6_choice_103 : decode cX6_choice 103 = .ok (.getfield 223, 3) := dk_180 0 223 (dk_at dksX6_choice_4 10 rfl rfl)
theorem dX6_choice_106 : decode cX6_choice 106 = .ok (.iconst 1, 1) := dk_4 (dk_at dksX6_choice_4 13 rfl rfl)
theorem dX6_choice_107 : decode cX6_choice 107 = .ok (.iadd, 1) := dk_96 (dk_at dksX6_choice_4 14 rfl rfl)
theorem dX6_choice_108 : decode cX6_choice 108 = .ok (.putfield 223, 3) := dk_181 0 223 (dk_at dksX6_choice_4 15 rfl rfl)
theorem dX6_choice_111 : decode cX6_choice 111 = .ok (.iload_n 2, 1) := dk_28 (dk_at dksX6_choice_4 18 rfl rfl)
theorem dX6_choice_112 : decode cX6_choice 112 = .ok (.aload_n 0, 1) := dk_42 (dk_at dksX6_choice_4 19 rfl rfl)
theorem dX6_choice_113 : decode cX6_choice 113 = .ok (.getfield 9, 3) := dk_180 0 9 (dk_at dksX6_choice_4 20 rfl rfl)
theorem dX6_choice_116 : decode cX6_choice 116 = .ok (.imul, 1) := dk_104 (dk_at dksX6_choice_4 23 rfl rfl)
theorem dX6_choice_117 : decode cX6_choice 117 = .ok (.iload_n 1, 1) := dk_27 (dk_at dksX6_choice_5 0 rfl rfl)
theorem dX6_choice_118 : decode cX6_choice 118 = .ok (.iadd, 1) := dk_96 (dk_at dksX6_choice_5 1 rfl rfl)
theorem dX6_choice_119 : decode cX6_choice 119 = .ok (.ireturn, 1) := dk_172 (dk_at dksX6_choice_5 2 rfl rfl)
abbrev cX6_isHere : ByteArray := prog_14_method_61_code
def yX6_isHere : MethodName := ⟨RX6, "isHere", "(CC)Z"⟩
def dkwX6_isHere_1 : List UInt8 := [42, 180, 0, 65, 42, 180, 0, 223, 52, 28, 163, 0, 7, 4, 167, 0, 4, 3, 172]
abbrev dktX6_isHere_1 : List UInt8 := dkwX6_isHere_1 ++ []
def dkwX6_isHere_0 : List UInt8 := [42, 180, 0, 223, 42, 180, 0, 220, 162, 0, 33, 42, 180, 0, 65, 42, 180, 0, 223, 52, 27, 161, 0, 20]
abbrev dktX6_isHere_0 : List UInt8 := dkwX6_isHere_0 ++ dktX6_isHere_1
theorem dksX6_isHere_0 : cX6_isHere.data.toList.drop 0 = dktX6_isHere_0 := by decide +kernel
theorem dksX6_isHere_1 : cX6_isHere.data.toList.drop 24 = dktX6_isHere_1 := dk_seg dksX6_isHere_0 24 rfl rfl
theorem dX6_isHere_0 : decode cX6_isHere 0 = .ok (.aload_n 0, 1) := dk_42 (dk_at dksX6_isHere_0 0 rfl rfl)
theorem dX6_isHere_1 : decode cX6_isHere 1 = .ok (.getfield 223, 3) := dk_180 0 223 (dk_at dksX6_isHere_0 1 rfl rfl)
theorem dX6_isHere_4 : decode cX6_isHere 4 = .ok (.aload_n 0, 1) := dk_42 (dk_at dksX6_isHere_0 4 rfl rfl)
theorem dX6_isHere_5 : decode cX6_isHere 5 = .ok (.getfield 220, 3) := dk_180 0 220 (dk_at dksX6_isHere_0 5 rfl rfl)
theorem dX6_isHere_8 : decode cX6_isHere 8 = .ok (.if_icmp .ge 33, 3) := dk_162 0 33 (dk_at dksX6_isHere_0 8 rfl rfl)
theorem dX6_isHere_11 : decode cX6_isHere 11 = .ok (.aload_n 0, 1) := dk_42 (dk_at dksX6_isHere_0 11 rfl rfl)
theorem dX6_isHere_12 : decode cX6_isHere 12 = .ok (.getfield 65, 3) := dk_180 0 65 (dk_at dksX6_isHere_0 12 rfl rfl)
theorem dX6_isHere_15 : decode cX6_isHere 15 = .ok (.aload_n 0, 1) := dk_42 (dk_at dksX6_isHere_0 15 rfl rfl)
theorem dX6_isHere_16 : decode cX6_isHere 16 = .ok (.getfield 223, 3) := dk_180 0 223 (dk_at dksX6_isHere_0 16 rfl rfl)
theorem dX6_isHere_19 : decode cX6_isHere 19 = .ok (.caload, 1) := dk_52 (dk_at dksX6_isHere_0 19 rfl rfl)
theorem dX6_isHere_20 : decode cX6_isHere 20 = .ok (.iload_n 1, 1) := dk_27 (dk_at dksX6_isHere_0 20 rfl rfl)
theorem dX6_isHere_21 : decode cX6_isHere 21 = .ok (.if_icmp .lt 20, 3) := dk_161 0 20 (dk_at dksX6_isHere_0 21 rfl rfl)
theorem dX6_isHere_24 : decode cX6_isHere 24 = .ok (.aload_n 0, 1) := dk_42 (dk_at dksX6_isHere_1 0 rfl rfl)
theorem dX6_isHere_25 : decode cX6_isHere 25 = .ok (.getfield 65, 3) := dk_180 0 65 (dk_at dksX6_isHere_1 1 rfl rfl)
theorem dX6_isHere_28 : decode cX6_isHere 28 = .ok (.aload_n 0, 1) := dk_42 (dk_at dksX6_isHere_1 4 rfl rfl)
theorem dX6_isHere_29 : decode cX6_isHere 29 = .ok (.getfield 223, 3) := dk_180 0 223 (dk_at dksX6_isHere_1 5 rfl rfl)
theorem dX6_isHere_32 : decode cX6_isHere 32 = .ok (.caload, 1) := dk_52 (dk_at dksX6_isHere_1 8 rfl rfl)
theorem dX6_isHere_33 : decode cX6_isHere 33 = .ok (.iload_n 2, 1) := dk_28 (dk_at dksX6_isHere_1 9 rfl rfl)
theorem dX6_isHere_34 : decode cX6_isHere 34 = .ok (.if_icmp .gt 7, 3) := dk_163 0 7 (dk_at dksX6_isHere_1 10 rfl rfl)
theorem dX6_isHere_37 : decode cX6_isHere 37 = .ok (.iconst 1, 1) := dk_4 (dk_at dksX6_isHere_1 13 rfl rfl)
theorem dX6_isHere_38 : decode cX6_isHere 38 = .ok (.goto 4, 3) := dk_167 0 4 (dk_at dksX6_isHere_1 14 rfl rfl)
theorem dX6_isHere_41 : decode cX6_isHere 41 = .ok (.iconst 0, 1) := dk_3 (dk_at dksX6_isHere_1 17 rfl rfl)
theorem dX6_isHere_42 : decode cX6_isHere 42 = .ok (.ireturn, 1) := dk_172 (dk_at dksX6_isHere_1 18 rfl rfl)
abbrev cX6_written : ByteArray := prog_14_method_67_code
def yX6_written : MethodName := ⟨RX6, "written", "(I)C"⟩
def dkwX6_written_4 : List UInt8 := [167, 255, 173, 42, 4, 181, 0, 73, 3, 172]
abbrev dktX6_written_4 : List UInt8 := dkwX6_written_4 ++ []
def dkwX6_written_3 : List UInt8 := [184, 0, 242, 100, 61, 132, 4, 1, 167, 255, 208, 28, 154, 0, 6, 16, 59, 172, 132, 2, 255, 132, 3, 1]
abbrev dktX6_written_3 : List UInt8 := dkwX6_written_3 ++ dktX6_written_4
def dkwX6_written_2 : List UInt8 := [54, 5, 28, 21, 5, 184, 0, 242, 162, 0, 11, 42, 21, 5, 28, 182, 0, 245, 172, 28, 21, 5]
abbrev dktX6_written_2 : List UInt8 := dkwX6_written_2 ++ dktX6_written_3
def dkwX6_written_1 : List UInt8 := [155, 0, 73, 3, 54, 4, 21, 4, 5, 162, 0, 48, 42, 180, 0, 32, 16, 7, 29, 104, 21, 4, 96, 46]
abbrev dktX6_written_1 : List UInt8 := dkwX6_written_1 ++ dktX6_written_2
def dkwX6_written_0 : List UInt8 := [42, 3, 181, 0, 73, 27, 61, 3, 62, 29, 42, 180, 0, 20, 17, 0, 153, 46, 162, 0, 77, 27]
abbrev dktX6_written_0 : List UInt8 := dkwX6_written_0 ++ dktX6_written_1
theorem dksX6_written_0 : cX6_written.data.toList.drop 0 = dktX6_written_0 := by decide +kernel
theorem dksX6_written_1 : cX6_written.data.toList.drop 22 = dktX6_written_1 := dk_seg dksX6_written_0 22 rfl rfl
theorem dksX6_written_2 : cX6_written.data.toList.drop 46 = dktX6_written_2 := dk_seg dksX6_written_1 24 rfl rfl
theorem dksX6_written_3 : cX6_written.data.toList.drop 68 = dktX6_written_3 := dk_seg dksX6_written_2 22 rfl rfl
theorem dksX6_written_4 : cX6_written.data.toList.drop 92 = dktX6_written_4 := dk_seg dksX6_written_3 24 rfl rfl
theorem dX6_written_0 : decode cX6_written 0 = .ok (.aload_n 0, 1) := dk_42 (dk_at dksX6_written_0 0 rfl rfl)
theorem dX6_written_1 : decode cX6_written 1 = .ok (.iconst 0, 1) := dk_3 (dk_at dksX6_written_0 1 rfl rfl)
theorem dX6_written_2 : decode cX6_written 2 = .ok (.putfield 73, 3) := dk_181 0 73 (dk_at dksX6_written_0 2 rfl rfl)
theorem dX6_written_5 : decode cX6_written 5 = .ok (.iload_n 1, 1) := dk_27 (dk_at dksX6_written_0 5 rfl rfl)
theorem dX6_written_6 : decode cX6_written 6 = .ok (.istore_n 2, 1) := dk_61 (dk_at dksX6_written_0 6 rfl rfl)
theorem dX6_written_7 : decode cX6_written 7 = .ok (.iconst 0, 1) := dk_3 (dk_at dksX6_written_0 7 rfl rfl)
theorem dX6_written_8 : decode cX6_written 8 = .ok (.istore_n 3, 1) := dk_62 (dk_at dksX6_written_0 8 rfl rfl)
theorem dX6_written_9 : decode cX6_written 9 = .ok (.iload_n 3, 1) := dk_29 (dk_at dksX6_written_0 9 rfl rfl)
theorem dX6_written_10 : decode cX6_written 10 = .ok (.aload_n 0, 1) := dk_42 (dk_at dksX6_written_0 10 rfl rfl)
theorem dX6_written_11 : decode cX6_written 11 = .ok (.getfield 20, 3) := dk_180 0 20 (dk_at dksX6_written_0 11 rfl rfl)
theorem dX6_written_14 : decode cX6_written 14 = .ok (.sipush 153, 3) := dk_17 0 153 (dk_at dksX6_written_0 14 rfl rfl)
theorem dX6_written_17 : decode cX6_written 17 = .ok (.iaload, 1) := dk_46 (dk_at dksX6_written_0 17 rfl rfl)
theorem dX6_written_18 : decode cX6_written 18 = .ok (.if_icmp .ge 77, 3) := dk_162 0 77 (dk_at dksX6_written_0 18 rfl rfl)
theorem dX6_written_21 : decode cX6_written 21 = .ok (.iload_n 1, 1) := dk_27 (dk_at dksX6_written_0 21 rfl rfl)
theorem dX6_written_22 : decode cX6_written 22 = .ok (.ifCond .lt 73, 3) := dk_155 0 73 (dk_at dksX6_written_1 0 rfl rfl)
theorem dX6_written_25 : decode cX6_written 25 = .ok (.iconst 0, 1) := dk_3 (dk_at dksX6_written_1 3 rfl rfl)
theorem dX6_written_26 : decode cX6_written 26 = .ok (.istore 4, 2) := dk_54 4 (dk_at dksX6_written_1 4 rfl rfl)
theorem dX6_written_28 : decode cX6_written 28 = .ok (.iload 4, 2) := dk_21 4 (dk_at dksX6_written_1 6 rfl rfl)
theorem dX6_written_30 : decode cX6_written 30 = .ok (.iconst 2, 1) := dk_5 (dk_at dksX6_written_1 8 rfl rfl)
theorem dX6_written_31 : decode cX6_written 31 = .ok (.if_icmp .ge 48, 3) := dk_162 0 48 (dk_at dksX6_written_1 9 rfl rfl)
theorem dX6_written_34 : decode cX6_written 34 = .ok (.aload_n 0, 1) := dk_42 (dk_at dksX6_written_1 12 rfl rfl)
theorem dX6_written_35 : decode cX6_written 35 = .ok (.getfield 32, 3) := dk_180 0 32 (dk_at dksX6_written_1 13 rfl rfl)
theorem dX6_written_38 : decode cX6_written 38 = .ok (.bipush 7, 2) := dk_16 7 (dk_at dksX6_written_1 16 rfl rfl)
theorem dX6_written_40 : decode cX6_written 40 = .ok (.iload_n 3, 1) := dk_29 (dk_at dksX6_written_1 18 rfl rfl)
theorem dX6_written_41 : decode cX6_written 41 = .ok (.imul, 1) := dk_104 (dk_at dksX6_written_1 19 rfl rfl)
theorem dX6_written_42 : decode cX6_written 42 = .ok (.iload 4, 2) := dk_21 4 (dk_at dksX6_written_1 20 rfl rfl)
theorem dX6_written_44 : decode cX6_written 44 = .ok (.iadd, 1) := dk_96 (dk_at dksX6_written_1 22 rfl rfl)
theorem dX6_written_45 : decode cX6_written 45 = .ok (.iaload, 1) := dk_46 (dk_at dksX6_written_1 23 rfl rfl)
theorem dX6_written_46 : decode cX6_written 46 = .ok (.istore 5, 2) := dk_54 5 (dk_at dksX6_written_2 0 rfl rfl)
theorem dX6_written_48 : decode cX6_written 48 = .ok (.iload_n 2, 1) := dk_28 (dk_at dksX6_written_2 2 rfl rfl)
theorem dX6_written_49 : decode cX6_written 49 = .ok (.iload 5, 2) := dk_21 5 (dk_at dksX6_written_2 3 rfl rfl)
theorem dX6_written_51 : decode cX6_written 51 = .ok (.invokestatic 242, 3) := dk_184 0 242 (dk_at dksX6_written_2 5 rfl rfl)
theorem dX6_written_54 : decode cX6_written 54 = .ok (.if_icmp .ge 11, 3) := dk_162 0 11 (dk_at dksX6_written_2 8 rfl rfl)
theorem dX6_written_57 : decode cX6_written 57 = .ok (.aload_n 0, 1) := dk_42 (dk_at dksX6_written_2 11 rfl rfl)
theorem dX6_written_58 : decode cX6_written 58 = .ok (.iload 5, 2) := dk_21 5 (dk_at dksX6_written_2 12 rfl rfl)
theorem dX6_written_60 : decode cX6_written 60 = .ok (.iload_n 2, 1) := dk_28 (dk_at dksX6_written_2 14 rfl rfl)
theorem dX6_written_61 : decode cX6_written 61 = .ok (.invokevirtual 245, 3) := dk_182 0 245 (dk_at dksX6_written_2 15 rfl rfl)
theorem dX6_written_64 : decode cX6_written 64 = .ok (.ireturn, 1) := dk_172 (dk_at dksX6_written_2 18 rfl rfl)
theorem dX6_written_65 : decode cX6_written 65 = .ok (.iload_n 2, 1) := dk_28 (dk_at dksX6_written_2 19 rfl rfl)
theorem dX6_written_66 : decode cX6_written 66 = .ok (.iload 5, 2) := dk_21 5 (dk_at dksX6_written_2 20 rfl rfl)
theorem dX6_written_68 : decode cX6_written 68 = .ok (.invokestatic 242, 3) := dk_184 0 242 (dk_at dksX6_written_3 0 rfl rfl)
theorem dX6_written_71 : decode cX6_written 71 = .ok (.isub, 1) := dk_100 (dk_at dksX6_written_3 3 rfl rfl)
theorem dX6_written_72 : decode cX6_written 72 = .ok (.istore_n 2, 1) := dk_61 (dk_at dksX6_written_3 4 rfl rfl)
theorem dX6_written_73 : decode cX6_written 73 = .ok (.iinc 4 1, 3) := dk_132 4 1 (dk_at dksX6_written_3 5 rfl rfl)
theorem dX6_written_76 : decode cX6_written 76 = .ok (.goto (-48), 3) := dk_167 255 208 (dk_at dksX6_written_3 8 rfl rfl)
theorem dX6_written_79 : decode cX6_written 79 = .ok (.iload_n 2, 1) := dk_28 (dk_at dksX6_written_3 11 rfl rfl)
theorem dX6_written_80 : decode cX6_written 80 = .ok (.ifCond .ne 6, 3) := dk_154 0 6 (dk_at dksX6_written_3 12 rfl rfl)
theorem dX6_written_83 : decode cX6_written 83 = .ok (.bipush 59, 2) := dk_16 59 (dk_at dksX6_written_3 15 rfl rfl)
theorem dX6_written_85 : decode cX6_written 85 = .ok (.ireturn, 1) := dk_172 (dk_at dksX6_written_3 17 rfl rfl)
theorem dX6_written_86 : decode cX6_written 86 = .ok (.iinc 2 (-1), 3) := dk_132 2 255 (dk_at dksX6_written_3 18 rfl rfl)
theorem dX6_written_89 : decode cX6_written 89 = .ok (.iinc 3 1, 3) := dk_132 3 1 (dk_at dksX6_written_3 21 rfl rfl)
theorem dX6_written_92 : decode cX6_written 92 = .ok (.goto (-83), 3) := dk_167 255 173 (dk_at dksX6_written_4 0 rfl rfl)
theorem dX6_written_95 : decode cX6_written 95 = .ok (.aload_n 0, 1) := dk_42 (dk_at dksX6_written_4 3 rfl rfl)
theorem dX6_written_96 : decode cX6_written 96 = .ok (.iconst 1, 1) := dk_4 (dk_at dksX6_written_4 4 rfl rfl)
theorem dX6_written_97 : decode cX6_written 97 = .ok (.putfield 73, 3) := dk_181 0 73 (dk_at dksX6_written_4 5 rfl rfl)
theorem dX6_written_100 : decode cX6_written 100 = .ok (.iconst 0, 1) := dk_3 (dk_at dksX6_written_4 8 rfl rfl)
theorem dX6_written_101 : decode cX6_written 101 = .ok (.ireturn, 1) := dk_172 (dk_at dksX6_written_4 9 rfl rfl)
abbrev cX6_lengthOf : ByteArray := prog_14_method_65_code
def yX6_lengthOf : MethodName := ⟨RX6, "lengthOf", "(I)I"⟩
def dkwX6_lengthOf_0 : List UInt8 := [26, 2, 160, 0, 7, 4, 167, 0, 4, 5, 172]
abbrev dktX6_lengthOf_0 : List UInt8 := dkwX6_lengthOf_0 ++ []
theorem dksX6_lengthOf_0 : cX6_lengthOf.data.toList.drop 0 = dktX6_lengthOf_0 := by decide +kernel
theorem dX6_lengthOf_0 : decode cX6_lengthOf 0 = .ok (.iload_n 0, 1) := dk_26 (dk_at dksX6_lengthOf_0 0 rfl rfl)
theorem dX6_lengthOf_1 : decode cX6_lengthOf 1 = .ok (.iconst (-1), 1) := dk_2 (dk_at dksX6_lengthOf_0 1 rfl rfl)
theorem dX6_lengthOf_2 : decode cX6_lengthOf 2 = .ok (.if_icmp .ne 7, 3) := dk_160 0 7 (dk_at dksX6_lengthOf_0 2 rfl rfl)
theorem dX6_lengthOf_5 : decode cX6_lengthOf 5 = .ok (.iconst 1, 1) := dk_4 (dk_at dksX6_lengthOf_0 5 rfl rfl)
theorem dX6_lengthOf_6 : decode cX6_lengthOf 6 = .ok (.goto 4, 3) := dk_167 0 4 (dk_at dksX6_lengthOf_0 6 rfl rfl)
theorem dX6_lengthOf_9 : decode cX6_lengthOf 9 = .ok (.iconst 2, 1) := dk_5 (dk_at dksX6_lengthOf_0 9 rfl rfl)
theorem dX6_lengthOf_10 : decode cX6_lengthOf 10 = .ok (.ireturn, 1) := dk_172 (dk_at dksX6_lengthOf_0 10 rfl rfl)
abbrev cX6_signOf : ByteArray := prog_14_method_66_code
def yX6_signOf : MethodName := ⟨RX6, "signOf", "(II)C"⟩
def dkwX6_signOf_1 : List UInt8 := [167, 0, 12, 16, 49, 27, 42, 180, 0, 9, 108, 96, 146, 172]
abbrev dktX6_signOf_1 : List UInt8 := dkwX6_signOf_1 ++ []
def dkwX6_signOf_0 : List UInt8 := [27, 2, 160, 0, 8, 16, 45, 167, 0, 29, 28, 154, 0, 15, 16, 97, 27, 42, 180, 0, 9, 112, 96]
abbrev dktX6_signOf_0 : List UInt8 := dkwX6_signOf_0 ++ dktX6_signOf_1
theorem dksX6_signOf_0 : cX6_signOf.data.toList.drop 0 = dktX6_signOf_0 := by decide +kernel
theorem dksX6_signOf_1 : cX6_signOf.data.toList.drop 23 = dktX6_signOf_1 := dk_seg dksX6_signOf_0 23 rfl rfl
theorem dX6_signOf_0 : decode cX6_signOf 0 = .ok (.iload_n 1, 1) := dk_27 (dk_at dksX6_signOf_0 0 rfl rfl)
theorem dX6_signOf_1 : decode cX6_signOf 1 = .ok (.iconst (-1), 1) := dk_2 (dk_at dksX6_signOf_0 1 rfl rfl)
theorem dX6_signOf_2 : decode cX6_signOf 2 = .ok (.if_icmp .ne 8, 3) := dk_160 0 8 (dk_at dksX6_signOf_0 2 rfl rfl)
theorem dX6_signOf_5 : decode cX6_signOf 5 = .ok (.bipush 45, 2) := dk_16 45 (dk_at dksX6_signOf_0 5 rfl rfl)
theorem dX6_signOf_7 : decode cX6_signOf 7 = .ok (.goto 29, 3) := dk_167 0 29 (dk_at dksX6_signOf_0 7 rfl rfl)
theorem dX6_signOf_10 : decode cX6_signOf 10 = .ok (.iload_n 2, 1) := dk_28 (dk_at dksX6_signOf_0 10 rfl rfl)
theorem dX6_signOf_11 : decode cX6_signOf 11 = .ok (.ifCond .ne 15, 3) := dk_154 0 15 (dk_at dksX6_signOf_0 11 rfl rfl)
theorem dX6_signOf_14 : decode cX6_signOf 14 = .ok (.bipush 97, 2) := dk_16 97 (dk_at dksX6_signOf_0 14 rfl rfl)
theorem dX6_signOf_16 : decode cX6_signOf 16 = .ok (.iload_n 1, 1) := dk_27 (dk_at dksX6_signOf_0 16 rfl rfl)
theorem dX6_signOf_17 : decode cX6_signOf 17 = .ok (.aload_n 0, 1) := dk_42 (dk_at dksX6_signOf_0 17 rfl rfl)
theorem dX6_signOf_18 : decode cX6_signOf 18 = .ok (.getfield 9, 3) := dk_180 0 9 (dk_at dksX6_signOf_0 18 rfl rfl)
theorem dX6_signOf_21 : decode cX6_signOf 21 = .ok (.irem, 1) := dk_112 (dk_at dksX6_signOf_0 21 rfl rfl)
theorem dX6_signOf_22 : decode cX6_signOf 22 = .ok (.iadd, 1) := dk_96 (dk_at dksX6_signOf_0 22 rfl rfl)
theorem dX6_signOf_23 : decode cX6_signOf 23 = .ok (.goto 12, 3) := dk_167 0 12 (dk_at dksX6_signOf_1 0 rfl rfl)
theorem dX6_signOf_26 : decode cX6_signOf 26 = .ok (.bipush 49, 2) := dk_16 49 (dk_at dksX6_signOf_1 3 rfl rfl)
theorem dX6_signOf_28 : decode cX6_signOf 28 = .ok (.iload_n 1, 1) := dk_27 (dk_at dksX6_signOf_1 5 rfl rfl)
theorem dX6_signOf_29 : decode cX6_signOf 29 = .ok (.aload_n 0, 1) := dk_42 (dk_at dksX6_signOf_1 6 rfl rfl)
theorem dX6_signOf_30 : decode cX6_signOf 30 = .ok (.getfield 9, 3) := dk_180 0 9 (dk_at dksX6_signOf_1 7 rfl rfl)
theorem dX6_signOf_33 : decode cX6_signOf 33 = .ok (.idiv, 1) := dk_108 (dk_at dksX6_signOf_1 10 rfl rfl)
theorem dX6_signOf_34 : decode cX6_signOf 34 = .ok (.iadd, 1) := dk_96 (dk_at dksX6_signOf_1 11 rfl rfl)
theorem dX6_signOf_35 : decode cX6_signOf 35 = .ok (.i2c, 1) := dk_146 (dk_at dksX6_signOf_1 12 rfl rfl)
theorem dX6_signOf_36 : decode cX6_signOf 36 = .ok (.ireturn, 1) := dk_172 (dk_at dksX6_signOf_1 13 rfl rfl)
abbrev cX6_save : ByteArray := prog_14_method_68_code
def yX6_save : MethodName := ⟨RX6, "save", "()I"⟩
def dkwX6_save_5 : List UInt8 := [42, 180, 0, 88, 181, 0, 255, 42, 4, 181, 1, 2, 42, 180, 0, 20, 17, 0, 153, 46, 172]
abbrev dktX6_save_5 : List UInt8 := dkwX6_save_5 ++ []
def dkwX6_save_4 : List UInt8 := [180, 0, 50, 5, 184, 0, 192, 42, 42, 180, 0, 9, 181, 0, 249, 42, 42, 180, 0, 13, 181, 0, 252, 42]
abbrev dktX6_save_4 : List UInt8 := dkwX6_save_4 ++ dktX6_save_5
def dkwX6_save_3 : List UInt8 := [180, 0, 47, 16, 8, 42, 180, 0, 20, 17, 0, 153, 46, 104, 184, 0, 192, 42, 180, 0, 16, 42]
abbrev dktX6_save_3 : List UInt8 := dkwX6_save_3 ++ dktX6_save_4
def dkwX6_save_2 : List UInt8 := [180, 0, 44, 16, 7, 42, 180, 0, 20, 17, 0, 153, 46, 104, 184, 0, 192, 42, 180, 0, 35, 42]
abbrev dktX6_save_2 : List UInt8 := dkwX6_save_2 ++ dktX6_save_3
def dkwX6_save_1 : List UInt8 := [180, 0, 41, 17, 0, 155, 42, 180, 0, 20, 17, 0, 153, 46, 104, 184, 0, 192, 42, 180, 0, 32, 42]
abbrev dktX6_save_1 : List UInt8 := dkwX6_save_1 ++ dktX6_save_2
def dkwX6_save_0 : List UInt8 := [42, 3, 181, 0, 73, 42, 180, 0, 20, 42, 180, 0, 38, 17, 0, 155, 184, 0, 192, 42, 180, 0, 29, 42]
abbrev dktX6_save_0 : List UInt8 := dkwX6_save_0 ++ dktX6_save_1
theorem dksX6_save_0 : cX6_save.data.toList.drop 0 = dktX6_save_0 := by decide +kernel
theorem dksX6_save_1 : cX6_save.data.toList.drop 24 = dktX6_save_1 := dk_seg dksX6_save_0 24 rfl rfl
theorem dksX6_save_2 : cX6_save.data.toList.drop 47 = dktX6_save_2 := dk_seg dksX6_save_1 23 rfl rfl
theorem dksX6_save_3 : cX6_save.data.toList.drop 69 = dktX6_save_3 := dk_seg dksX6_save_2 22 rfl rfl
theorem dksX6_save_4 : cX6_save.data.toList.drop 91 = dktX6_save_4 := dk_seg dksX6_save_3 22 rfl rfl
theorem dksX6_save_5 : cX6_save.data.toList.drop 115 = dktX6_save_5 := dk_seg dksX6_save_4 24 rfl rfl
theorem dX6_save_0 : decode cX6_save 0 = .ok (.aload_n 0, 1) := dk_42 (dk_at dksX6_save_0 0 rfl rfl)
theorem dX6_save_1 : decode cX6_save 1 = .ok (.iconst 0, 1) := dk_3 (dk_at dksX6_save_0 1 rfl rfl)
theorem dX6_save_2 : decode cX6_save 2 = .ok (.putfield 73, 3) := dk_181 0 73 (dk_at dksX6_save_0 2 rfl rfl)
theorem dX6_save_5 : decode cX6_save 5 = .ok (.aload_n 0, 1) := dk_42 (dk_at dksX6_save_0 5 rfl rfl)
theorem dX6_save_6 : decode cX6_save 6 = .ok (.getfield 20, 3) := dk_180 0 20 (dk_at dksX6_save_0 6 rfl rfl)
theorem dX6_save_9 : decode cX6_save 9 = .ok (.aload_n 0, 1) := dk_42 (dk_at dksX6_save_0 9 rfl rfl)
theorem dX6_save_10 : decode cX6_save 10 = .ok (.getfield 38, 3) := dk_180 0 38 (dk_at dksX6_save_0 10 rfl rfl)
theorem dX6_save_13 : decode cX6_save 13 = .ok (.sipush 155, 3) := dk_17 0 155 (dk_at dksX6_save_0 13 rfl rfl)
theorem dX6_save_16 : decode cX6_save 16 = .ok (.invokestatic 192, 3) := dk_184 0 192 (dk_at dksX6_save_0 16 rfl rfl)
theorem dX6_save_19 : decode cX6_save 19 = .ok (.aload_n 0, 1) := dk_42 (dk_at dksX6_save_0 19 rfl rfl)
theorem dX6_save_20 : decode cX6_save 20 = .ok (.getfield 29, 3) := dk_180 0 29 (dk_at dksX6_save_0 20 rfl rfl)
theorem dX6_save_23 : decode cX6_save 23 = .ok (.aload_n 0, 1) := dk_42 (dk_at dksX6_save_0 23 rfl rfl)
theorem dX6_save_24 : decode cX6_save 24 = .ok (.getfield 41, 3) := dk_180 0 41 (dk_at dksX6_save_1 0 rfl rfl)
theorem dX6_save_27 : decode cX6_save 27 = .ok (.sipush 155, 3) := dk_17 0 155 (dk_at dksX6_save_1 3 rfl rfl)
theorem dX6_save_30 : decode cX6_save 30 = .ok (.aload_n 0, 1) := dk_42 (dk_at dksX6_save_1 6 rfl rfl)
theorem dX6_save_31 : decode cX6_save 31 = .ok (.getfield 20, 3) := dk_180 0 20 (dk_at dksX6_save_1 7 rfl rfl)
theorem dX6_save_34 : decode cX6_save 34 = .ok (.sipush 153, 3) := dk_17 0 153 (dk_at dksX6_save_1 10 rfl rfl)
theorem dX6_save_37 : decode cX6_save 37 = .ok (.iaload, 1) := dk_46 (dk_at dksX6_save_1 13 rfl rfl)
theorem dX6_save_38 : decode cX6_save 38 = .ok (.imul, 1) := dk_104 (dk_at dksX6_save_1 14 rfl rfl)
theorem dX6_save_39 : decode cX6_save 39 = .ok (.invokestatic 192, 3) := dk_184 0 192 (dk_at dksX6_save_1 15 rfl rfl)
theorem dX6_save_42 : decode cX6_save 42 = .ok (.aload_n 0, 1) := dk_42 (dk_at dksX6_save_1 18 rfl rfl)
theorem dX6_save_43 : decode cX6_save 43 = .ok (.getfield 32, 3) := dk_180 0 32 (dk_at dksX6_save_1 19 rfl rfl)
theorem dX6_save_46 : decode cX6_save 46 = .ok (.aload_n 0, 1) := dk_42 (dk_at dksX6_save_1 22 rfl rfl)
theorem dX6_save_47 : decode cX6_save 47 = .ok (.getfield 44, 3) := dk_180 0 44 (dk_at dksX6_save_2 0 rfl rfl)
theorem dX6_save_50 : decode cX6_save 50 = .ok (.bipush 7, 2) := dk_16 7 (dk_at dksX6_save_2 3 rfl rfl)
theorem dX6_save_52 : decode cX6_save 52 = .ok (.aload_n 0, 1) := dk_42 (dk_at dksX6_save_2 5 rfl rfl)
theorem dX6_save_53 : decode cX6_save 53 = .ok (.getfield 20, 3) := dk_180 0 20 (dk_at dksX6_save_2 6 rfl rfl)
theorem dX6_save_56 : decode cX6_save 56 = .ok (.sipush 153, 3) := dk_17 0 153 (dk_at dksX6_save_2 9 rfl rfl)
theorem dX6_save_59 : decode cX6_save 59 = .ok (.iaload, 1) := dk_46 (dk_at dksX6_save_2 12 rfl rfl)
theorem dX6_save_60 : decode cX6_save 60 = .ok (.imul, 1) := dk_104 (dk_at dksX6_save_2 13 rfl rfl)
theorem dX6_save_61 : decode cX6_save 61 = .ok (.invokestatic 192, 3) := dk_184 0 192 (dk_at dksX6_save_2 14 rfl rfl)
theorem dX6_save_64 : decode cX6_save 64 = .ok (.aload_n 0, 1) := dk_42 (dk_at dksX6_save_2 17 rfl rfl)
theorem dX6_save_65 : decode cX6_save 65 = .ok (.getfield 35, 3) := dk_180 0 35 (dk_at dksX6_save_2 18 rfl rfl)
theorem dX6_save_68 : decode cX6_save 68 = .ok (.aload_n 0, 1) := dk_42 (dk_at dksX6_save_2 21 rfl rfl)
theorem dX6_save_69 : decode cX6_save 69 = .ok (.getfield 47, 3) := dk_180 0 47 (dk_at dksX6_save_3 0 rfl rfl)
theorem dX6_save_72 : decode cX6_save 72 = .ok (.bipush 8, 2) := dk_16 8 (dk_at dksX6_save_3 3 rfl rfl)
theorem dX6_save_74 : decode cX6_save 74 = .ok (.aload_n 0, 1) := dk_42 (dk_at dksX6_save_3 5 rfl rfl)
theorem dX6_save_75 : decode cX6_save 75 = .ok (.getfield 20, 3) := dk_180 0 20 (dk_at dksX6_save_3 6 rfl rfl)
theorem dX6_save_78 : decode cX6_save 78 = .ok (.sipush 153, 3) := dk_17 0 153 (dk_at dksX6_save_3 9 rfl rfl)
theorem dX6_save_81 : decode cX6_save 81 = .ok (.iaload, 1) := dk_46 (dk_at dksX6_save_3 12 rfl rfl)
theorem dX6_save_82 : decode cX6_save 82 = .ok (.imul, 1) := dk_104 (dk_at dksX6_save_3 13 rfl rfl)
theorem dX6_save_83 : decode cX6_save 83 = .ok (.invokestatic 192, 3) := dk_184 0 192 (dk_at dksX6_save_3 14 rfl rfl)
theorem dX6_save_86 : decode cX6_save 86 = .ok (.aload_n 0, 1) := dk_42 (dk_at dksX6_save_3 17 rfl rfl)
theorem dX6_save_87 : decode cX6_save 87 = .ok (.getfield 16, 3) := dk_180 0 16 (dk_at dksX6_save_3 18 rfl rfl)
theorem dX6_save_90 : decode cX6_save 90 = .ok (.aload_n 0, 1) := dk_42 (dk_at dksX6_save_3 21 rfl rfl)
theorem dX6_save_91 : decode cX6_save 91 = .ok (.getfield 50, 3) := dk_180 0 50 (dk_at dksX6_save_4 0 rfl rfl)
theorem dX6_save_94 : decode cX6_save 94 = .ok (.iconst 2, 1) := dk_5 (dk_at dksX6_save_4 3 rfl rfl)
theorem dX6_save_95 : decode cX6_save 95 = .ok (.invokestatic 192, 3) := dk_184 0 192 (dk_at dksX6_save_4 4 rfl rfl)
theorem dX6_save_98 : decode cX6_save 98 = .ok (.aload_n 0, 1) := dk_42 (dk_at dksX6_save_4 7 rfl rfl)
theorem dX6_save_99 : decode cX6_save 99 = .ok (.aload_n 0, 1) := dk_42 (dk_at dksX6_save_4 8 rfl rfl)
theorem dX6_save_100 : decode cX6_save 100 = .ok (.getfield 9, 3) := dk_180 0 9 (dk_at dksX6_save_4 9 rfl rfl)
theorem dX6_save_103 : decode cX6_save 103 = .ok (.putfield 249, 3) := dk_181 0 249 (dk_at dksX6_save_4 12 rfl rfl)
theorem dX6_save_106 : decode cX6_save 106 = .ok (.aload_n 0, 1) := dk_42 (dk_at dksX6_save_4 15 rfl rfl)
theorem dX6_save_107 : decode cX6_save 107 = .ok (.aload_n 0, 1) := dk_42 (dk_at dksX6_save_4 16 rfl rfl)
theorem dX6_save_108 : decode cX6_save 108 = .ok (.getfield 13, 3) := dk_180 0 13 (dk_at dksX6_save_4 17 rfl rfl)
theorem dX6_save_111 : decode cX6_save 111 = .ok (.putfield 252, 3) := dk_181 0 252 (dk_at dksX6_save_4 20 rfl rfl)
theorem dX6_save_114 : decode cX6_save 114 = .ok (.aload_n 0, 1) := dk_42 (dk_at dksX6_save_4 23 rfl rfl)
theorem dX6_save_115 : decode cX6_save 115 = .ok (.aload_n 0, 1) := dk_42 (dk_at dksX6_save_5 0 rfl rfl)
theorem dX6_save_116 : decode cX6_save 116 = .ok (.getfield 88, 3) := dk_180 0 88 (dk_at dksX6_save_5 1 rfl rfl)
theorem dX6_save_119 : decode cX6_save 119 = .ok (.putfield 255, 3) := dk_181 0 255 (dk_at dksX6_save_5 4 rfl rfl)
theorem dX6_save_122 : decode cX6_save 122 = .ok (.aload_n 0, 1) := dk_42 (dk_at dksX6_save_5 7 rfl rfl)
theorem dX6_save_123 : decode cX6_save 123 = .ok (.iconst 1, 1) := dk_4 (dk_at dksX6_save_5 8 rfl rfl)
theorem dX6_save_124 : decode cX6_save 124 = .ok (.putfield 258, 3) := dk_181 1 2 (dk_at dksX6_save_5 9 rfl rfl)
theorem dX6_save_127 : decode cX6_save 127 = .ok (.aload_n 0, 1) := dk_42 (dk_at dksX6_save_5 12 rfl rfl)
theorem dX6_save_128 : decode cX6_save 128 = .ok (.getfield 20, 3) := dk_180 0 20 (dk_at dksX6_save_5 13 rfl rfl)
theorem dX6_save_131 : decode cX6_save 131 = .ok (.sipush 153, 3) := dk_17 0 153 (dk_at dksX6_save_5 16 rfl rfl)
theorem dX6_save_134 : decode cX6_save 134 = .ok (.iaload, 1) := dk_46 (dk_at dksX6_save_5 19 rfl rfl)
theorem dX6_save_135 : decode cX6_save 135 = .ok (.ireturn, 1) := dk_172 (dk_at dksX6_save_5 20 rfl rfl)
abbrev cX6_restore : ByteArray := prog_14_method_69_code
def yX6_restore : MethodName := ⟨RX6, "restore", "()I"⟩
def dkwX6_restore_6 : List UInt8 := [42, 180, 0, 20, 17, 0, 153, 46, 172]
abbrev dktX6_restore_6 : List UInt8 := dkwX6_restore_6 ++ []
def dkwX6_restore_5 : List UInt8 := [42, 42, 180, 0, 249, 181, 0, 9, 42, 42, 180, 0, 252, 181, 0, 13, 42, 42, 180, 0, 255, 181, 0, 88]
abbrev dktX6_restore_5 : List UInt8 := dkwX6_restore_5 ++ dktX6_restore_6
def dkwX6_restore_4 : List UInt8 := [42, 180, 0, 20, 17, 0, 153, 46, 104, 184, 0, 192, 42, 180, 0, 50, 42, 180, 0, 16, 5, 184, 0, 192]
abbrev dktX6_restore_4 : List UInt8 := dkwX6_restore_4 ++ dktX6_restore_5
def dkwX6_restore_3 : List UInt8 := [16, 7, 42, 180, 0, 20, 17, 0, 153, 46, 104, 184, 0, 192, 42, 180, 0, 47, 42, 180, 0, 35, 16, 8]
abbrev dktX6_restore_3 : List UInt8 := dkwX6_restore_3 ++ dktX6_restore_4
def dkwX6_restore_2 : List UInt8 := [17, 0, 155, 42, 180, 0, 20, 17, 0, 153, 46, 104, 184, 0, 192, 42, 180, 0, 44, 42, 180, 0, 32]
abbrev dktX6_restore_2 : List UInt8 := dkwX6_restore_2 ++ dktX6_restore_3
def dkwX6_restore_1 : List UInt8 := [172, 42, 180, 0, 38, 42, 180, 0, 20, 17, 0, 155, 184, 0, 192, 42, 180, 0, 41, 42, 180, 0, 29]
abbrev dktX6_restore_1 : List UInt8 := dkwX6_restore_1 ++ dktX6_restore_2
def dkwX6_restore_0 : List UInt8 := [42, 42, 180, 1, 2, 153, 0, 7, 3, 167, 0, 4, 4, 181, 0, 73, 42, 180, 1, 2, 154, 0, 5, 3]
abbrev dktX6_restore_0 : List UInt8 := dkwX6_restore_0 ++ dktX6_restore_1
theorem dksX6_restore_0 : cX6_restore.data.toList.drop 0 = dktX6_restore_0 := by decide +kernel
theorem dksX6_restore_1 : cX6_restore.data.toList.drop 24 = dktX6_restore_1 := dk_seg dksX6_restore_0 24 rfl rfl
theorem dksX6_restore_2 : cX6_restore.data.toList.drop 47 = dktX6_restore_2 := dk_seg dksX6_restore_1 23 rfl rfl
theorem dksX6_restore_3 : cX6_restore.data.toList.drop 70 = dktX6_restore_3 := dk_seg dksX6_restore_2 23 rfl rfl
theorem dksX6_restore_4 : cX6_restore.data.toList.drop 94 = dktX6_restore_4 := dk_seg dksX6_restore_3 24 rfl rfl
theorem dksX6_restore_5 : cX6_restore.data.toList.drop 118 = dktX6_restore_5 := dk_seg dksX6_restore_4 24 rfl rfl
theorem dksX6_restore_6 : cX6_restore.data.toList.drop 142 = dktX6_restore_6 := dk_seg dksX6_restore_5 24 rfl rfl
theorem dX6_restore_0 : decode cX6_restore 0 = .ok (.aload_n 0, 1) := dk_42 (dk_at dksX6_restore_0 0 rfl rfl)
theorem dX6_restore_1 : decode cX6_restore 1 = .ok (.aload_n 0, 1) := dk_42 (dk_at dksX6_restore_0 1 rfl rfl)
theorem dX6_restore_2 : decode cX6_restore 2 = .ok (.getfield 258, 3) := dk_180 1 2 (dk_at dksX6_restore_0 2 rfl rfl)
theorem dX6_restore_5 : decode cX6_restore 5 = .ok (.ifCond .eq 7, 3) := dk_153 0 7 (dk_at dksX6_restore_0 5 rfl rfl)
theorem dX6_restore_8 : decode cX6_restore 8 = .ok (.iconst 0, 1) := dk_3 (dk_at dksX6_restore_0 8 rfl rfl)
theorem dX6_restore_9 : decode cX6_restore 9 = .ok (.goto 4, 3) := dk_167 0 4 (dk_at dksX6_restore_0 9 rfl rfl)
theorem dX6_restore_12 : decode cX6_restore 12 = .ok (.iconst 1, 1) := dk_4 (dk_at dksX6_restore_0 12 rfl rfl)
theorem dX6_restore_13 : decode cX6_restore 13 = .ok (.putfield 73, 3) := dk_181 0 73 (dk_at dksX6_restore_0 13 rfl rfl)
theorem dX6_restore_16 : decode cX6_restore 16 = .ok (.aload_n 0, 1) := dk_42 (dk_at dksX6_restore_0 16 rfl rfl)
theorem dX6_restore_17 : decode cX6_restore 17 = .ok (.getfield 258, 3) := dk_180 1 2 (dk_at dksX6_restore_0 17 rfl rfl)
theorem dX6_restore_20 : decode cX6_restore 20 = .ok (.ifCond .ne 5, 3) := dk_154 0 5 (dk_at dksX6_restore_0 20 rfl rfl)
theorem dX6_restore_23 : decode cX6_restore 23 = .ok (.iconst 0, 1) := dk_3 (dk_at dksX6_restore_0 23 rfl rfl)
theorem dX6_restore_24 : decode cX6_restore 24 = .ok (.ireturn, 1) := dk_172 (dk_at dksX6_restore_1 0 rfl rfl)
theorem dX6_restore_25 : decode cX6_restore 25 = .ok (.aload_n 0, 1) := dk_42 (dk_at dksX6_restore_1 1 rfl rfl)
theorem dX6_restore_26 : decode cX6_restore 26 = .ok (.getfield 38, 3) := dk_180 0 38 (dk_at dksX6_restore_1 2 rfl rfl)
theorem dX6_restore_29 : decode cX6_restore 29 = .ok (.aload_n 0, 1) := dk_42 (dk_at dksX6_restore_1 5 rfl rfl)
theorem dX6_restore_30 : decode cX6_restore 30 = .ok (.getfield 20, 3) := dk_180 0 20 (dk_at dksX6_restore_1 6 rfl rfl)
theorem dX6_restore_33 : decode cX6_restore 33 = .ok (.sipush 155, 3) := dk_17 0 155 (dk_at dksX6_restore_1 9 rfl rfl)
theorem dX6_restore_36 : decode cX6_restore 36 = .ok (.invokestatic 192, 3) := dk_184 0 192 (dk_at dksX6_restore_1 12 rfl rfl)
theorem dX6_restore_39 : decode cX6_restore 39 = .ok (.aload_n 0, 1) := dk_42 (dk_at dksX6_restore_1 15 rfl rfl)
theorem dX6_restore_40 : decode cX6_restore 40 = .ok (.getfield 41, 3) := dk_180 0 41 (dk_at dksX6_restore_1 16 rfl rfl)
theorem dX6_restore_43 : decode cX6_restore 43 = .ok (.aload_n 0, 1) := dk_42 (dk_at dksX6_restore_1 19 rfl rfl)
theorem dX6_restore_44 : decode cX6_restore 44 = .ok (.getfield 29, 3) := dk_180 0 29 (dk_at dksX6_restore_1 20 rfl rfl)
theorem dX6_restore_47 : decode cX6_restore 47 = .ok (.sipush 155, 3) := dk_17 0 155 (dk_at dksX6_restore_2 0 rfl rfl)
theorem dX6_restore_50 : decode cX6_restore 50 = .ok (.aload_n 0, 1) := dk_42 (dk_at dksX6_restore_2 3 rfl rfl)
theorem dX6_restore_51 : decode cX6_restore 51 = .ok (.getfield 20, 3) := dk_180 0 20 (dk_at dksX6_restore_2 4 rfl rfl)
theorem dX6_restore_54 : decode cX6_restore 54 = .ok (.sipush 153, 3) := dk_17 0 153 (dk_at dksX6_restore_2 7 rfl rfl)
theorem dX6_restore_57 : decode cX6_restore 57 = .ok (.iaload, 1) := dk_46 (dk_at dksX6_restore_2 10 rfl rfl)
theorem dX6_restore_58 : decode cX6_restore 58 = .ok (.imul, 1) := dk_104 (dk_at dksX6_restore_2 11 rfl rfl)
theorem dX6_restore_59 : decode cX6_restore 59 = .ok (.invokestatic 192, 3) := dk_184 0 192 (dk_at dksX6_restore_2 12 rfl rfl)
theorem dX6_restore_62 : decode cX6_restore 62 = .ok (.aload_n 0, 1) := dk_42 (dk_at dksX6_restore_2 15 rfl rfl)
theorem dX6_restore_63 : decode cX6_restore 63 = .ok (.getfield 44, 3) := dk_180 0 44 (dk_at dksX6_restore_2 16 rfl rfl)
theorem dX6_restore_66 : decode cX6_restore 66 = .ok (.aload_n 0, 1) := dk_42 (dk_at dksX6_restore_2 19 rfl rfl)
theorem dX6_restore_67 : decode cX6_restore 67 = .ok (.getfield 32, 3) := dk_180 0 32 (dk_at dksX6_restore_2 20 rfl rfl)
theorem dX6_restore_70 : decode cX6_restore 70 = .ok (.bipush 7, 2) := dk_16 7 (dk_at dksX6_restore_3 0 rfl rfl)
theorem dX6_restore_72 : decode cX6_restore 72 = .ok (.aload_n 0, 1) := dk_42 (dk_at dksX6_restore_3 2 rfl rfl)
theorem dX6_restore_73 : decode cX6_restore 73 = .ok (.getfield 20, 3) := dk_180 0 20 (dk_at dksX6_restore_3 3 rfl rfl)
theorem dX6_restore_76 : decode cX6_restore 76 = .ok (.sipush 153, 3) := dk_17 0 153 (dk_at dksX6_restore_3 6 rfl rfl)
theorem dX6_restore_79 : decode cX6_restore 79 = .ok (.iaload, 1) := dk_46 (dk_at dksX6_restore_3 9 rfl rfl)
theorem dX6_restore_80 : decode cX6_restore 80 = .ok (.imul, 1) := dk_104 (dk_at dksX6_restore_3 10 rfl rfl)
theorem dX6_restore_81 : decode cX6_restore 81 = .ok (.invokestatic 192, 3) := dk_184 0 192 (dk_at dksX6_restore_3 11 rfl rfl)
theorem dX6_restore_84 : decode cX6_restore 84 = .ok (.aload_n 0, 1) := dk_42 (dk_at dksX6_restore_3 14 rfl rfl)
theorem dX6_restore_85 : decode cX6_restore 85 = .ok (.getfield 47, 3) := dk_180 0 47 (dk_at dksX6_restore_3 15 rfl rfl)
theorem dX6_restore_88 : decode cX6_restore 88 = .ok (.aload_n 0, 1) := dk_42 (dk_at dksX6_restore_3 18 rfl rfl)
theorem dX6_restore_89 : decode cX6_restore 89 = .ok (.getfield 35, 3) := dk_180 0 35 (dk_at dksX6_restore_3 19 rfl rfl)
theorem dX6_restore_92 : decode cX6_restore 92 = .ok (.bipush 8, 2) := dk_16 8 (dk_at dksX6_restore_3 22 rfl rfl)
theorem dX6_restore_94 : decode cX6_restore 94 = .ok (.aload_n 0, 1) := dk_42 (dk_at dksX6_restore_4 0 rfl rfl)
theorem dX6_restore_95 : decode cX6_restore 95 = .ok (.getfield 20, 3) := dk_180 0 20 (dk_at dksX6_restore_4 1 rfl rfl)
theorem dX6_restore_98 : decode cX6_restore 98 = .ok (.sipush 153, 3) := dk_17 0 153 (dk_at dksX6_restore_4 4 rfl rfl)
theorem dX6_restore_101 : decode cX6_restore 101 = .ok (.iaload, 1) := dk_46 (dk_at dksX6_restore_4 7 rfl rfl)
theorem dX6_restore_102 : decode cX6_restore 102 = .ok (.imul, 1) := dk_104 (dk_at dksX6_restore_4 8 rfl rfl)
theorem dX6_restore_103 : decode cX6_restore 103 = .ok (.invokestatic 192, 3) := dk_184 0 192 (dk_at dksX6_restore_4 9 rfl rfl)
theorem dX6_restore_106 : decode cX6_restore 106 = .ok (.aload_n 0, 1) := dk_42 (dk_at dksX6_restore_4 12 rfl rfl)
theorem dX6_restore_107 : decode cX6_restore 107 = .ok (.getfield 50, 3) := dk_180 0 50 (dk_at dksX6_restore_4 13 rfl rfl)
theorem dX6_restore_110 : decode cX6_restore 110 = .ok (.aload_n 0, 1) := dk_42 (dk_at dksX6_restore_4 16 rfl rfl)
theorem dX6_restore_111 : decode cX6_restore 111 = .ok (.getfield 16, 3) := dk_180 0 16 (dk_at dksX6_restore_4 17 rfl rfl)
theorem dX6_restore_114 : decode cX6_restore 114 = .ok (.iconst 2, 1) := dk_5 (dk_at dksX6_restore_4 20 rfl rfl)
theorem dX6_restore_115 : decode cX6_restore 115 = .ok (.invokestatic 192, 3) := dk_184 0 192 (dk_at dksX6_restore_4 21 rfl rfl)
theorem dX6_restore_118 : decode cX6_restore 118 = .ok (.aload_n 0, 1) := dk_42 (dk_at dksX6_restore_5 0 rfl rfl)
theorem dX6_restore_119 : decode cX6_restore 119 = .ok (.aload_n 0, 1) := dk_42 (dk_at dksX6_restore_5 1 rfl rfl)
theorem dX6_restore_120 : decode cX6_restore 120 = .ok (.getfield 249, 3) := dk_180 0 249 (dk_at dksX6_restore_5 2 rfl rfl)
theorem dX6_restore_123 : decode cX6_restore 123 = .ok (.putfield 9, 3) := dk_181 0 9 (dk_at dksX6_restore_5 5 rfl rfl)
theorem dX6_restore_126 : decode cX6_restore 126 = .ok (.aload_n 0, 1) := dk_42 (dk_at dksX6_restore_5 8 rfl rfl)
theorem dX6_restore_127 : decode cX6_restore 127 = .ok (.aload_n 0, 1) := dk_42 (dk_at dksX6_restore_5 9 rfl rfl)
theorem dX6_restore_128 : decode cX6_restore 128 = .ok (.getfield 252, 3) := dk_180 0 252 (dk_at dksX6_restore_5 10 rfl rfl)
theorem dX6_restore_131 : decode cX6_restore 131 = .ok (.putfield 13, 3) := dk_181 0 13 (dk_at dksX6_restore_5 13 rfl rfl)
theorem dX6_restore_134 : decode cX6_restore 134 = .ok (.aload_n 0, 1) := dk_42 (dk_at dksX6_restore_5 16 rfl rfl)
theorem dX6_restore_135 : decode cX6_restore 135 = .ok (.aload_n 0, 1) := dk_42 (dk_at dksX6_restore_5 17 rfl rfl)
theorem dX6_restore_136 : decode cX6_restore 136 = .ok (.getfield 255, 3) := dk_180 0 255 (dk_at dksX6_restore_5 18 rfl rfl)
theorem dX6_restore_139 : decode cX6_restore 139 = .ok (.putfield 88, 3) := dk_181 0 88 (dk_at dksX6_restore_5 21 rfl rfl)
theorem dX6_restore_142 : decode cX6_restore 142 = .ok (.aload_n 0, 1) := dk_42 (dk_at dksX6_restore_6 0 rfl rfl)
theorem dX6_restore_143 : decode cX6_restore 143 = .ok (.getfield 20, 3) := dk_180 0 20 (dk_at dksX6_restore_6 1 rfl rfl)
theorem dX6_restore_146 : decode cX6_restore 146 = .ok (.sipush 153, 3) := dk_17 0 153 (dk_at dksX6_restore_6 4 rfl rfl)
theorem dX6_restore_149 : decode cX6_restore 149 = .ok (.iaload, 1) := dk_46 (dk_at dksX6_restore_6 7 rfl rfl)
theorem dX6_restore_150 : decode cX6_restore 150 = .ok (.ireturn, 1) := dk_172 (dk_at dksX6_restore_6 8 rfl rfl)
theorem q79 : (Jvm.Cond.initialized "EnclosureRefereeModel") ∈ lw_all := lw_g (lw_at lw_m1 13 rfl) rfl
theorem q301 : (Jvm.Cond.selects "EnclosureRefereeModel" ({ cls := "java/lang/Object", name := "getClass", desc := "()Ljava/lang/Class;" } : Jvm.MethodName) ({ cls := "java/lang/Object", name := "getClass", desc := "()Ljava/lang/Class;" } : Jvm.MethodName)) ∈ lw_all := lw_g (lw_at lw_m1 235 rfl) rfl
theorem q1503 : (Jvm.Cond.instantiable "EnclosureRefereeModel" (33 : Nat)) ∈ lw_all := lw_g (lw_at lw_m6 237 rfl) rfl
theorem q1505 : (Jvm.Cond.instanceMethod ({ cls := "EnclosureRefereeModel", name := "<init>", desc := "()V" } : Jvm.MethodName)) ∈ lw_all := lw_g (lw_at lw_m6 239 rfl) rfl
theorem q1506 : (Jvm.Cond.code ({ cls := "EnclosureRefereeModel", name := "<init>", desc := "()V" } : Jvm.MethodName) prog_14_method_1_code (1 : Nat) (Option.none : Option Jvm.ClassFile.FieldType)) ∈ lw_all := lw_g (lw_at lw_m7 0 rfl) rfl
theorem q1507 : (Jvm.Cond.methodLink "EnclosureRefereeModel" (3 : Nat) ({ cls := "java/lang/Object", name := "<init>", desc := "()V" } : Jvm.MethodName)) ∈ lw_all := lw_g (lw_at lw_m7 1 rfl) rfl
theorem q1508 : (Jvm.Cond.methodLink "EnclosureRefereeModel" (69 : Nat) ({ cls := "EnclosureRefereeModel", name := "begins", desc := "(I)V" } : Jvm.MethodName)) ∈ lw_all := lw_g (lw_at lw_m7 2 rfl) rfl
theorem q1509 : (Jvm.Cond.privateMethod ({ cls := "EnclosureRefereeModel", name := "begins", desc := "(I)V" } : Jvm.MethodName)) ∈ lw_tbl := lw_at lw_m7 3 rfl
theorem q1510 : (Jvm.Cond.instanceMethod ({ cls := "EnclosureRefereeModel", name := "begins", desc := "(I)V" } : Jvm.MethodName)) ∈ lw_all := lw_g (lw_at lw_m7 4 rfl) rfl
theorem q1511 : (Jvm.Cond.code ({ cls := "EnclosureRefereeModel", name := "begins", desc := "(I)V" } : Jvm.MethodName) prog_14_method_8_code (5 : Nat) (Option.none : Option Jvm.ClassFile.FieldType)) ∈ lw_all := lw_g (lw_at lw_m7 5 rfl) rfl
theorem q1512 : (Jvm.Cond.fieldLink "EnclosureRefereeModel" (73 : Nat) "EnclosureRefereeModel" "thrown" "I") ∈ lw_all := lw_g (lw_at lw_m7 6 rfl) rfl
theorem q1513 : (Jvm.Cond.fieldLink "EnclosureRefereeModel" (9 : Nat) "EnclosureRefereeModel" "wide" "I") ∈ lw_all := lw_g (lw_at lw_m7 7 rfl) rfl
theorem q1514 : (Jvm.Cond.fieldLink "EnclosureRefereeModel" (13 : Nat) "EnclosureRefereeModel" "high" "I") ∈ lw_all := lw_g (lw_at lw_m7 8 rfl) rfl
theorem q1515 : (Jvm.Cond.fieldLink "EnclosureRefereeModel" (88 : Nat) "EnclosureRefereeModel" "rule" "I") ∈ lw_all := lw_g (lw_at lw_m7 9 rfl) rfl
theorem q1516 : (Jvm.Cond.fieldLink "EnclosureRefereeModel" (16 : Nat) "EnclosureRefereeModel" "bonus" "[I") ∈ lw_all := lw_g (lw_at lw_m7 10 rfl) rfl
theorem q1517 : (Jvm.Cond.fieldLink "EnclosureRefereeModel" (20 : Nat) "EnclosureRefereeModel" "v" "[I") ∈ lw_all := lw_g (lw_at lw_m7 11 rfl) rfl
theorem q1518 : (Jvm.Cond.fieldLink "EnclosureRefereeModel" (23 : Nat) "EnclosureRefereeModel" "first" "[I") ∈ lw_all := lw_g (lw_at lw_m7 12 rfl) rfl
theorem q1519 : (Jvm.Cond.fieldLink "EnclosureRefereeModel" (26 : Nat) "EnclosureRefereeModel" "second" "[I") ∈ lw_all := lw_g (lw_at lw_m7 13 rfl) rfl
theorem q1520 : (Jvm.Cond.fieldLink "EnclosureRefereeModel" (29 : Nat) "EnclosureRefereeModel" "past" "[I") ∈ lw_all := lw_g (lw_at lw_m7 14 rfl) rfl
theorem q1521 : (Jvm.Cond.fieldLink "EnclosureRefereeModel" (32 : Nat) "EnclosureRefereeModel" "info" "[I") ∈ lw_all := lw_g (lw_at lw_m7 15 rfl) rfl
theorem q1522 : (Jvm.Cond.fieldLink "EnclosureRefereeModel" (35 : Nat) "EnclosureRefereeModel" "waveCells" "[I") ∈ lw_all := lw_g (lw_at lw_m7 16 rfl) rfl
theorem q1523 : (Jvm.Cond.fieldLink "EnclosureRefereeModel" (38 : Nat) "EnclosureRefereeModel" "savedRow" "[I") ∈ lw_all := lw_g (lw_at lw_m7 17 rfl) rfl
theorem q1524 : (Jvm.Cond.fieldLink "EnclosureRefereeModel" (41 : Nat) "EnclosureRefereeModel" "savedPast" "[I") ∈ lw_all := lw_g (lw_at lw_m7 18 rfl) rfl
theorem q1525 : (Jvm.Cond.fieldLink "EnclosureRefereeModel" (44 : Nat) "EnclosureRefereeModel" "savedInfo" "[I") ∈ lw_all := lw_g (lw_at lw_m7 19 rfl) rfl
theorem q1526 : (Jvm.Cond.fieldLink "EnclosureRefereeModel" (47 : Nat) "EnclosureRefereeModel" "savedWaves" "[I") ∈ lw_all := lw_g (lw_at lw_m7 20 rfl) rfl
theorem q1527 : (Jvm.Cond.fieldLink "EnclosureRefereeModel" (50 : Nat) "EnclosureRefereeModel" "savedBonus" "[I") ∈ lw_all := lw_g (lw_at lw_m7 21 rfl) rfl
theorem q1528 : (Jvm.Cond.fieldLink "EnclosureRefereeModel" (249 : Nat) "EnclosureRefereeModel" "savedWide" "I") ∈ lw_all := lw_g (lw_at lw_m7 22 rfl) rfl
theorem q1529 : (Jvm.Cond.fieldLink "EnclosureRefereeModel" (252 : Nat) "EnclosureRefereeModel" "savedHigh" "I") ∈ lw_all := lw_g (lw_at lw_m7 23 rfl) rfl
theorem q1530 : (Jvm.Cond.fieldLink "EnclosureRefereeModel" (255 : Nat) "EnclosureRefereeModel" "savedRule" "I") ∈ lw_all := lw_g (lw_at lw_m7 24 rfl) rfl
theorem q1531 : (Jvm.Cond.fieldLink "EnclosureRefereeModel" (258 : Nat) "EnclosureRefereeModel" "isSaved" "Z") ∈ lw_all := lw_g (lw_at lw_m7 25 rfl) rfl
theorem q1532 : (Jvm.Cond.fieldLink "EnclosureRefereeModel" (53 : Nat) "EnclosureRefereeModel" "enclosed" "[I") ∈ lw_all := lw_g (lw_at lw_m7 26 rfl) rfl
theorem q1533 : (Jvm.Cond.fieldLink "EnclosureRefereeModel" (56 : Nat) "EnclosureRefereeModel" "changedBy" "[I") ∈ lw_all := lw_g (lw_at lw_m7 27 rfl) rfl
theorem q1534 : (Jvm.Cond.fieldLink "EnclosureRefereeModel" (135 : Nat) "EnclosureRefereeModel" "clashed" "I") ∈ lw_all := lw_g (lw_at lw_m7 28 rfl) rfl
theorem q1535 : (Jvm.Cond.fieldLink "EnclosureRefereeModel" (141 : Nat) "EnclosureRefereeModel" "waved" "I") ∈ lw_all := lw_g (lw_at lw_m7 29 rfl) rfl
theorem q1536 : (Jvm.Cond.fieldLink "EnclosureRefereeModel" (144 : Nat) "EnclosureRefereeModel" "changed" "I") ∈ lw_all := lw_g (lw_at lw_m7 30 rfl) rfl
theorem q1537 : (Jvm.Cond.fieldLink "EnclosureRefereeModel" (59 : Nat) "EnclosureRefereeModel" "code" "[I") ∈ lw_all := lw_g (lw_at lw_m7 31 rfl) rfl
theorem q1538 : (Jvm.Cond.fieldLink "EnclosureRefereeModel" (62 : Nat) "EnclosureRefereeModel" "detail" "[I") ∈ lw_all := lw_g (lw_at lw_m7 32 rfl) rfl
theorem q1539 : (Jvm.Cond.fieldLink "EnclosureRefereeModel" (154 : Nat) "EnclosureRefereeModel" "levelN" "I") ∈ lw_all := lw_g (lw_at lw_m7 33 rfl) rfl
theorem q1540 : (Jvm.Cond.fieldLink "EnclosureRefereeModel" (65 : Nat) "EnclosureRefereeModel" "text" "[C") ∈ lw_all := lw_g (lw_at lw_m7 34 rfl) rfl
theorem q1541 : (Jvm.Cond.fieldLink "EnclosureRefereeModel" (220 : Nat) "EnclosureRefereeModel" "textN" "I") ∈ lw_all := lw_g (lw_at lw_m7 35 rfl) rfl
theorem q1542 : (Jvm.Cond.fieldLink "EnclosureRefereeModel" (223 : Nat) "EnclosureRefereeModel" "at" "I") ∈ lw_all := lw_g (lw_at lw_m7 36 rfl) rfl
theorem q1543 : (Jvm.Cond.fieldLink "EnclosureRefereeModel" (233 : Nat) "EnclosureRefereeModel" "read" "I") ∈ lw_all := lw_g (lw_at lw_m7 37 rfl) rfl
theorem q1544 : (Jvm.Cond.fieldLink "EnclosureRefereeModel" (236 : Nat) "EnclosureRefereeModel" "readToo" "I") ∈ lw_all := lw_g (lw_at lw_m7 38 rfl) rfl
theorem q1545 : (Jvm.Cond.lays "EnclosureRefereeModel" "EnclosureRefereeModel" "thrown" "I") ∈ lw_all := lw_g (lw_at lw_m7 39 rfl) rfl
theorem q1546 : (Jvm.Cond.soleField "EnclosureRefereeModel" "thrown") ∈ lw_all := lw_g (lw_at lw_m7 40 rfl) rfl
theorem q1547 : (Jvm.Cond.lays "EnclosureRefereeModel" "EnclosureRefereeModel" "wide" "I") ∈ lw_all := lw_g (lw_at lw_m7 41 rfl) rfl
theorem q1548 : (Jvm.Cond.soleField "EnclosureRefereeModel" "wide") ∈ lw_all := lw_g (lw_at lw_m7 42 rfl) rfl
theorem q1549 : (Jvm.Cond.lays "EnclosureRefereeModel" "EnclosureRefereeModel" "high" "I") ∈ lw_all := lw_g (lw_at lw_m7 43 rfl) rfl
theorem q1550 : (Jvm.Cond.soleField "EnclosureRefereeModel" "high") ∈ lw_all := lw_g (lw_at lw_m7 44 rfl) rfl
theorem q1551 : (Jvm.Cond.lays "EnclosureRefereeModel" "EnclosureRefereeModel" "rule" "I") ∈ lw_all := lw_g (lw_at lw_m7 45 rfl) rfl
theorem q1552 : (Jvm.Cond.soleField "EnclosureRefereeModel" "rule") ∈ lw_all := lw_g (lw_at lw_m7 46 rfl) rfl
theorem q1553 : (Jvm.Cond.laysFinal "EnclosureRefereeModel" "EnclosureRefereeModel" "bonus" "[I") ∈ lw_all := lw_g (lw_at lw_m7 47 rfl) rfl
theorem q1554 : (Jvm.Cond.soleField "EnclosureRefereeModel" "bonus") ∈ lw_all := lw_g (lw_at lw_m7 48 rfl) rfl
theorem q1555 : (Jvm.Cond.laysFinal "EnclosureRefereeModel" "EnclosureRefereeModel" "v" "[I") ∈ lw_all := lw_g (lw_at lw_m7 49 rfl) rfl
theorem q1556 : (Jvm.Cond.soleField "EnclosureRefereeModel" "v") ∈ lw_all := lw_g (lw_at lw_m7 50 rfl) rfl
theorem q1557 : (Jvm.Cond.laysFinal "EnclosureRefereeModel" "EnclosureRefereeModel" "first" "[I") ∈ lw_all := lw_g (lw_at lw_m7 51 rfl) rfl
theorem q1558 : (Jvm.Cond.soleField "EnclosureRefereeModel" "first") ∈ lw_all := lw_g (lw_at lw_m7 52 rfl) rfl
theorem q1559 : (Jvm.Cond.laysFinal "EnclosureRefereeModel" "EnclosureRefereeModel" "second" "[I") ∈ lw_all := lw_g (lw_at lw_m7 53 rfl) rfl
theorem q1560 : (Jvm.Cond.soleField "EnclosureRefereeModel" "second") ∈ lw_all := lw_g (lw_at lw_m7 54 rfl) rfl
theorem q1561 : (Jvm.Cond.laysFinal "EnclosureRefereeModel" "EnclosureRefereeModel" "past" "[I") ∈ lw_all := lw_g (lw_at lw_m7 55 rfl) rfl
theorem q1562 : (Jvm.Cond.soleField "EnclosureRefereeModel" "past") ∈ lw_all := lw_g (lw_at lw_m7 56 rfl) rfl
theorem q1563 : (Jvm.Cond.laysFinal "EnclosureRefereeModel" "EnclosureRefereeModel" "info" "[I") ∈ lw_all := lw_g (lw_at lw_m7 57 rfl) rfl
theorem q1564 : (Jvm.Cond.soleField "EnclosureRefereeModel" "info") ∈ lw_all := lw_g (lw_at lw_m7 58 rfl) rfl
theorem q1565 : (Jvm.Cond.laysFinal "EnclosureRefereeModel" "EnclosureRefereeModel" "waveCells" "[I") ∈ lw_all := lw_g (lw_at lw_m7 59 rfl) rfl
theorem q1566 : (Jvm.Cond.soleField "EnclosureRefereeModel" "waveCells") ∈ lw_all := lw_g (lw_at lw_m7 60 rfl) rfl
theorem q1567 : (Jvm.Cond.laysFinal "EnclosureRefereeModel" "EnclosureRefereeModel" "savedRow" "[I") ∈ lw_all := lw_g (lw_at lw_m7 61 rfl) rfl
theorem q1568 : (Jvm.Cond.soleField "EnclosureRefereeModel" "savedRow") ∈ lw_all := lw_g (lw_at lw_m7 62 rfl) rfl
theorem q1569 : (Jvm.Cond.laysFinal "EnclosureRefereeModel" "EnclosureRefereeModel" "savedPast" "[I") ∈ lw_all := lw_g (lw_at lw_m7 63 rfl) rfl
theorem q1570 : (Jvm.Cond.soleField "EnclosureRefereeModel" "savedPast") ∈ lw_all := lw_g (lw_at lw_m7 64 rfl) rfl
theorem q1571 : (Jvm.Cond.laysFinal "EnclosureRefereeModel" "EnclosureRefereeModel" "savedInfo" "[I") ∈ lw_all := lw_g (lw_at lw_m7 65 rfl) rfl
theorem q1572 : (Jvm.Cond.soleField "EnclosureRefereeModel" "savedInfo") ∈ lw_all := lw_g (lw_at lw_m7 66 rfl) rfl
theorem q1573 : (Jvm.Cond.laysFinal "EnclosureRefereeModel" "EnclosureRefereeModel" "savedWaves" "[I") ∈ lw_all := lw_g (lw_at lw_m7 67 rfl) rfl
theorem q1574 : (Jvm.Cond.soleField "EnclosureRefereeModel" "savedWaves") ∈ lw_all := lw_g (lw_at lw_m7 68 rfl) rfl
theorem q1575 : (Jvm.Cond.laysFinal "EnclosureRefereeModel" "EnclosureRefereeModel" "savedBonus" "[I") ∈ lw_all := lw_g (lw_at lw_m7 69 rfl) rfl
theorem q1576 : (Jvm.Cond.soleField "EnclosureRefereeModel" "savedBonus") ∈ lw_all := lw_g (lw_at lw_m7 70 rfl) rfl
theorem q1577 : (Jvm.Cond.lays "EnclosureRefereeModel" "EnclosureRefereeModel" "savedWide" "I") ∈ lw_all := lw_g (lw_at lw_m7 71 rfl) rfl
theorem q1578 : (Jvm.Cond.soleField "EnclosureRefereeModel" "savedWide") ∈ lw_all := lw_g (lw_at lw_m7 72 rfl) rfl
theorem q1579 : (Jvm.Cond.lays "EnclosureRefereeModel" "EnclosureRefereeModel" "savedHigh" "I") ∈ lw_all := lw_g (lw_at lw_m7 73 rfl) rfl
theorem q1580 : (Jvm.Cond.soleField "EnclosureRefereeModel" "savedHigh") ∈ lw_all := lw_g (lw_at lw_m7 74 rfl) rfl
theorem q1581 : (Jvm.Cond.lays "EnclosureRefereeModel" "EnclosureRefereeModel" "savedRule" "I") ∈ lw_all := lw_g (lw_at lw_m7 75 rfl) rfl
theorem q1582 : (Jvm.Cond.soleField "EnclosureRefereeModel" "savedRule") ∈ lw_all := lw_g (lw_at lw_m7 76 rfl) rfl
theorem q1583 : (Jvm.Cond.lays "EnclosureRefereeModel" "EnclosureRefereeModel" "isSaved" "Z") ∈ lw_all := lw_g (lw_at lw_m7 77 rfl) rfl
theorem q1584 : (Jvm.Cond.soleField "EnclosureRefereeModel" "isSaved") ∈ lw_all := lw_g (lw_at lw_m7 78 rfl) rfl
theorem q1585 : (Jvm.Cond.laysFinal "EnclosureRefereeModel" "EnclosureRefereeModel" "enclosed" "[I") ∈ lw_all := lw_g (lw_at lw_m7 79 rfl) rfl
theorem q1586 : (Jvm.Cond.soleField "EnclosureRefereeModel" "enclosed") ∈ lw_all := lw_g (lw_at lw_m7 80 rfl) rfl
theorem q1587 : (Jvm.Cond.laysFinal "EnclosureRefereeModel" "EnclosureRefereeModel" "changedBy" "[I") ∈ lw_all := lw_g (lw_at lw_m7 81 rfl) rfl
theorem q1588 : (Jvm.Cond.soleField "EnclosureRefereeModel" "changedBy") ∈ lw_all := lw_g (lw_at lw_m7 82 rfl) rfl
theorem q1589 : (Jvm.Cond.lays "EnclosureRefereeModel" "EnclosureRefereeModel" "clashed" "I") ∈ lw_all := lw_g (lw_at lw_m7 83 rfl) rfl
theorem q1590 : (Jvm.Cond.soleField "EnclosureRefereeModel" "clashed") ∈ lw_all := lw_g (lw_at lw_m7 84 rfl) rfl
theorem q1591 : (Jvm.Cond.lays "EnclosureRefereeModel" "EnclosureRefereeModel" "waved" "I") ∈ lw_all := lw_g (lw_at lw_m7 85 rfl) rfl
theorem q1592 : (Jvm.Cond.soleField "EnclosureRefereeModel" "waved") ∈ lw_all := lw_g (lw_at lw_m7 86 rfl) rfl
theorem q1593 : (Jvm.Cond.lays "EnclosureRefereeModel" "EnclosureRefereeModel" "changed" "I") ∈ lw_all := lw_g (lw_at lw_m7 87 rfl) rfl
theorem q1594 : (Jvm.Cond.soleField "EnclosureRefereeModel" "changed") ∈ lw_all := lw_g (lw_at lw_m7 88 rfl) rfl
theorem q1595 : (Jvm.Cond.laysFinal "EnclosureRefereeModel" "EnclosureRefereeModel" "code" "[I") ∈ lw_all := lw_g (lw_at lw_m7 89 rfl) rfl
theorem q1596 : (Jvm.Cond.soleField "EnclosureRefereeModel" "code") ∈ lw_all := lw_g (lw_at lw_m7 90 rfl) rfl
theorem q1597 : (Jvm.Cond.laysFinal "EnclosureRefereeModel" "EnclosureRefereeModel" "detail" "[I") ∈ lw_all := lw_g (lw_at lw_m7 91 rfl) rfl
theorem q1598 : (Jvm.Cond.soleField "EnclosureRefereeModel" "detail") ∈ lw_all := lw_g (lw_at lw_m7 92 rfl) rfl
theorem q1599 : (Jvm.Cond.lays "EnclosureRefereeModel" "EnclosureRefereeModel" "levelN" "I") ∈ lw_all := lw_g (lw_at lw_m7 93 rfl) rfl
theorem q1600 : (Jvm.Cond.soleField "EnclosureRefereeModel" "levelN") ∈ lw_all := lw_g (lw_at lw_m7 94 rfl) rfl
theorem q1601 : (Jvm.Cond.laysFinal "EnclosureRefereeModel" "EnclosureRefereeModel" "text" "[C") ∈ lw_all := lw_g (lw_at lw_m7 95 rfl) rfl
theorem q1602 : (Jvm.Cond.soleField "EnclosureRefereeModel" "text") ∈ lw_all := lw_g (lw_at lw_m7 96 rfl) rfl
theorem q1603 : (Jvm.Cond.lays "EnclosureRefereeModel" "EnclosureRefereeModel" "textN" "I") ∈ lw_all := lw_g (lw_at lw_m7 97 rfl) rfl
theorem q1604 : (Jvm.Cond.soleField "EnclosureRefereeModel" "textN") ∈ lw_all := lw_g (lw_at lw_m7 98 rfl) rfl
theorem q1605 : (Jvm.Cond.lays "EnclosureRefereeModel" "EnclosureRefereeModel" "at" "I") ∈ lw_all := lw_g (lw_at lw_m7 99 rfl) rfl
theorem q1606 : (Jvm.Cond.soleField "EnclosureRefereeModel" "at") ∈ lw_all := lw_g (lw_at lw_m7 100 rfl) rfl
theorem q1607 : (Jvm.Cond.lays "EnclosureRefereeModel" "EnclosureRefereeModel" "read" "I") ∈ lw_all := lw_g (lw_at lw_m7 101 rfl) rfl
theorem q1608 : (Jvm.Cond.soleField "EnclosureRefereeModel" "read") ∈ lw_all := lw_g (lw_at lw_m7 102 rfl) rfl
theorem q1609 : (Jvm.Cond.lays "EnclosureRefereeModel" "EnclosureRefereeModel" "readToo" "I") ∈ lw_all := lw_g (lw_at lw_m7 103 rfl) rfl
theorem q1610 : (Jvm.Cond.soleField "EnclosureRefereeModel" "readToo") ∈ lw_all := lw_g (lw_at lw_m7 104 rfl) rfl
theorem q1611 : (Jvm.Cond.superclass "EnclosureRefereeModel" "java/lang/Object") ∈ lw_all := lw_g (lw_at lw_m7 105 rfl) rfl
theorem q1613 : (Jvm.Cond.instanceMethod ({ cls := "EnclosureRefereeModel", name := "thrown", desc := "()I" } : Jvm.MethodName)) ∈ lw_all := lw_g (lw_at lw_m7 107 rfl) rfl
theorem q1614 : (Jvm.Cond.selects "EnclosureRefereeModel" ({ cls := "EnclosureRefereeModel", name := "thrown", desc := "()I" } : Jvm.MethodName) ({ cls := "EnclosureRefereeModel", name := "thrown", desc := "()I" } : Jvm.MethodName)) ∈ lw_all := lw_g (lw_at lw_m7 108 rfl) rfl
theorem q1615 : (Jvm.Cond.code ({ cls := "EnclosureRefereeModel", name := "thrown", desc := "()I" } : Jvm.MethodName) prog_14_method_2_code (1 : Nat) (Option.some Jvm.ClassFile.FieldType.int)) ∈ lw_all := lw_g (lw_at lw_m7 109 rfl) rfl
theorem q1617 : (Jvm.Cond.instanceMethod ({ cls := "EnclosureRefereeModel", name := "start", desc := "(III)I" } : Jvm.MethodName)) ∈ lw_all := lw_g (lw_at lw_m7 111 rfl) rfl
theorem q1618 : (Jvm.Cond.selects "EnclosureRefereeModel" ({ cls := "EnclosureRefereeModel", name := "start", desc := "(III)I" } : Jvm.MethodName) ({ cls := "EnclosureRefereeModel", name := "start", desc := "(III)I" } : Jvm.MethodName)) ∈ lw_all := lw_g (lw_at lw_m7 112 rfl) rfl
theorem q1619 : (Jvm.Cond.code ({ cls := "EnclosureRefereeModel", name := "start", desc := "(III)I" } : Jvm.MethodName) prog_14_method_10_code (4 : Nat) (Option.some Jvm.ClassFile.FieldType.int)) ∈ lw_all := lw_g (lw_at lw_m7 113 rfl) rfl
theorem q1620 : (Jvm.Cond.methodLink "EnclosureRefereeModel" (80 : Nat) ({ cls := "EnclosureRefereeModel", name := "isIn", desc := "(III)Z" } : Jvm.MethodName)) ∈ lw_all := lw_g (lw_at lw_m7 114 rfl) rfl
theorem q1621 : (Jvm.Cond.static ({ cls := "EnclosureRefereeModel", name := "isIn", desc := "(III)Z" } : Jvm.MethodName)) ∈ lw_all := lw_g (lw_at lw_m7 115 rfl) rfl
theorem q1622 : (Jvm.Cond.code ({ cls := "EnclosureRefereeModel", name := "isIn", desc := "(III)Z" } : Jvm.MethodName) prog_14_method_4_code (3 : Nat) (Option.some Jvm.ClassFile.FieldType.boolean)) ∈ lw_all := lw_g (lw_at lw_m7 116 rfl) rfl
theorem q1623 : (Jvm.Cond.methodLink "EnclosureRefereeModel" (84 : Nat) ({ cls := "EnclosureRefereeModel", name := "many", desc := "(I)I" } : Jvm.MethodName)) ∈ lw_all := lw_g (lw_at lw_m7 117 rfl) rfl
theorem q1624 : (Jvm.Cond.privateMethod ({ cls := "EnclosureRefereeModel", name := "many", desc := "(I)I" } : Jvm.MethodName)) ∈ lw_tbl := lw_at lw_m7 118 rfl
theorem q1625 : (Jvm.Cond.instanceMethod ({ cls := "EnclosureRefereeModel", name := "many", desc := "(I)I" } : Jvm.MethodName)) ∈ lw_all := lw_g (lw_at lw_m7 119 rfl) rfl
theorem q1626 : (Jvm.Cond.code ({ cls := "EnclosureRefereeModel", name := "many", desc := "(I)I" } : Jvm.MethodName) prog_14_method_9_code (4 : Nat) (Option.some Jvm.ClassFile.FieldType.int)) ∈ lw_all := lw_g (lw_at lw_m7 120 rfl) rfl
theorem q1627 : (Jvm.Cond.methodLink "EnclosureRefereeModel" (76 : Nat) ({ cls := "EnclosureRefereeModel", name := "cells", desc := "()I" } : Jvm.MethodName)) ∈ lw_all := lw_g (lw_at lw_m7 121 rfl) rfl
theorem q1628 : (Jvm.Cond.privateMethod ({ cls := "EnclosureRefereeModel", name := "cells", desc := "()I" } : Jvm.MethodName)) ∈ lw_tbl := lw_at lw_m7 122 rfl
theorem q1629 : (Jvm.Cond.instanceMethod ({ cls := "EnclosureRefereeModel", name := "cells", desc := "()I" } : Jvm.MethodName)) ∈ lw_all := lw_g (lw_at lw_m7 123 rfl) rfl
theorem q1630 : (Jvm.Cond.code ({ cls := "EnclosureRefereeModel", name := "cells", desc := "()I" } : Jvm.MethodName) prog_14_method_6_code (1 : Nat) (Option.some Jvm.ClassFile.FieldType.int)) ∈ lw_all := lw_g (lw_at lw_m7 124 rfl) rfl
theorem q1632 : (Jvm.Cond.instanceMethod ({ cls := "EnclosureRefereeModel", name := "setRule", desc := "(I)I" } : Jvm.MethodName)) ∈ lw_all := lw_g (lw_at lw_m7 126 rfl) rfl
theorem q1633 : (Jvm.Cond.selects "EnclosureRefereeModel" ({ cls := "EnclosureRefereeModel", name := "setRule", desc := "(I)I" } : Jvm.MethodName) ({ cls := "EnclosureRefereeModel", name := "setRule", desc := "(I)I" } : Jvm.MethodName)) ∈ lw_all := lw_g (lw_at lw_m7 127 rfl) rfl
theorem q1634 : (Jvm.Cond.code ({ cls := "EnclosureRefereeModel", name := "setRule", desc := "(I)I" } : Jvm.MethodName) prog_14_method_11_code (3 : Nat) (Option.some Jvm.ClassFile.FieldType.int)) ∈ lw_all := lw_g (lw_at lw_m7 128 rfl) rfl
theorem q1636 : (Jvm.Cond.instanceMethod ({ cls := "EnclosureRefereeModel", name := "setBonus", desc := "(II)I" } : Jvm.MethodName)) ∈ lw_all := lw_g (lw_at lw_m7 130 rfl) rfl
theorem q1637 : (Jvm.Cond.selects "EnclosureRefereeModel" ({ cls := "EnclosureRefereeModel", name := "setBonus", desc := "(II)I" } : Jvm.MethodName) ({ cls := "EnclosureRefereeModel", name := "setBonus", desc := "(II)I" } : Jvm.MethodName)) ∈ lw_all := lw_g (lw_at lw_m7 131 rfl) rfl
theorem q1638 : (Jvm.Cond.code ({ cls := "EnclosureRefereeModel", name := "setBonus", desc := "(II)I" } : Jvm.MethodName) prog_14_method_12_code (4 : Nat) (Option.some Jvm.ClassFile.FieldType.int)) ∈ lw_all := lw_g (lw_at lw_m7 132 rfl) rfl
theorem q1640 : (Jvm.Cond.instanceMethod ({ cls := "EnclosureRefereeModel", name := "play", desc := "(II)I" } : Jvm.MethodName)) ∈ lw_all := lw_g (lw_at lw_m7 134 rfl) rfl
theorem q1641 : (Jvm.Cond.selects "EnclosureRefereeModel" ({ cls := "EnclosureRefereeModel", name := "play", desc := "(II)I" } : Jvm.MethodName) ({ cls := "EnclosureRefereeModel", name := "play", desc := "(II)I" } : Jvm.MethodName)) ∈ lw_all := lw_g (lw_at lw_m7 135 rfl) rfl
theorem q1642 : (Jvm.Cond.code ({ cls := "EnclosureRefereeModel", name := "play", desc := "(II)I" } : Jvm.MethodName) prog_14_method_33_code (3 : Nat) (Option.some Jvm.ClassFile.FieldType.int)) ∈ lw_all := lw_g (lw_at lw_m7 136 rfl) rfl
theorem q1643 : (Jvm.Cond.methodLink "EnclosureRefereeModel" (167 : Nat) ({ cls := "EnclosureRefereeModel", name := "isChoice", desc := "(I)Z" } : Jvm.MethodName)) ∈ lw_all := lw_g (lw_at lw_m7 137 rfl) rfl
theorem q1644 : (Jvm.Cond.privateMethod ({ cls := "EnclosureRefereeModel", name := "isChoice", desc := "(I)Z" } : Jvm.MethodName)) ∈ lw_tbl := lw_at lw_m7 138 rfl
theorem q1645 : (Jvm.Cond.instanceMethod ({ cls := "EnclosureRefereeModel", name := "isChoice", desc := "(I)Z" } : Jvm.MethodName)) ∈ lw_all := lw_g (lw_at lw_m7 139 rfl) rfl
theorem q1646 : (Jvm.Cond.code ({ cls := "EnclosureRefereeModel", name := "isChoice", desc := "(I)Z" } : Jvm.MethodName) prog_14_method_30_code (2 : Nat) (Option.some Jvm.ClassFile.FieldType.boolean)) ∈ lw_all := lw_g (lw_at lw_m7 140 rfl) rfl
theorem q1647 : (Jvm.Cond.methodLink "EnclosureRefereeModel" (150 : Nat) ({ cls := "EnclosureRefereeModel", name := "isCell", desc := "(I)Z" } : Jvm.MethodName)) ∈ lw_all := lw_g (lw_at lw_m7 141 rfl) rfl
theorem q1648 : (Jvm.Cond.privateMethod ({ cls := "EnclosureRefereeModel", name := "isCell", desc := "(I)Z" } : Jvm.MethodName)) ∈ lw_tbl := lw_at lw_m7 142 rfl
theorem q1649 : (Jvm.Cond.instanceMethod ({ cls := "EnclosureRefereeModel", name := "isCell", desc := "(I)Z" } : Jvm.MethodName)) ∈ lw_all := lw_g (lw_at lw_m7 143 rfl) rfl
theorem q1650 : (Jvm.Cond.code ({ cls := "EnclosureRefereeModel", name := "isCell", desc := "(I)Z" } : Jvm.MethodName) prog_14_method_7_code (2 : Nat) (Option.some Jvm.ClassFile.FieldType.boolean)) ∈ lw_all := lw_g (lw_at lw_m7 144 rfl) rfl
theorem q1651 : (Jvm.Cond.methodLink "EnclosureRefereeModel" (170 : Nat) ({ cls := "EnclosureRefereeModel", name := "over", desc := "()Z" } : Jvm.MethodName)) ∈ lw_all := lw_g (lw_at lw_m7 145 rfl) rfl
theorem q1652 : (Jvm.Cond.privateMethod ({ cls := "EnclosureRefereeModel", name := "over", desc := "()Z" } : Jvm.MethodName)) ∈ lw_tbl := lw_at lw_m7 146 rfl
theorem q1653 : (Jvm.Cond.instanceMethod ({ cls := "EnclosureRefereeModel", name := "over", desc := "()Z" } : Jvm.MethodName)) ∈ lw_all := lw_g (lw_at lw_m7 147 rfl) rfl
theorem q1654 : (Jvm.Cond.code ({ cls := "EnclosureRefereeModel", name := "over", desc := "()Z" } : Jvm.MethodName) prog_14_method_24_code (1 : Nat) (Option.some Jvm.ClassFile.FieldType.boolean)) ∈ lw_all := lw_g (lw_at lw_m7 148 rfl) rfl
theorem q1655 : (Jvm.Cond.methodLink "EnclosureRefereeModel" (108 : Nat) ({ cls := "EnclosureRefereeModel", name := "emptyCells", desc := "()I" } : Jvm.MethodName)) ∈ lw_all := lw_g (lw_at lw_m7 149 rfl) rfl
theorem q1656 : (Jvm.Cond.privateMethod ({ cls := "EnclosureRefereeModel", name := "emptyCells", desc := "()I" } : Jvm.MethodName)) ∈ lw_tbl := lw_at lw_m7 150 rfl
theorem q1657 : (Jvm.Cond.instanceMethod ({ cls := "EnclosureRefereeModel", name := "emptyCells", desc := "()I" } : Jvm.MethodName)) ∈ lw_all := lw_g (lw_at lw_m7 151 rfl) rfl
theorem q1658 : (Jvm.Cond.code ({ cls := "EnclosureRefereeModel", name := "emptyCells", desc := "()I" } : Jvm.MethodName) prog_14_method_23_code (1 : Nat) (Option.some Jvm.ClassFile.FieldType.int)) ∈ lw_all := lw_g (lw_at lw_m7 152 rfl) rfl
theorem q1659 : (Jvm.Cond.methodLink "EnclosureRefereeModel" (174 : Nat) ({ cls := "EnclosureRefereeModel", name := "goes", desc := "(II)Z" } : Jvm.MethodName)) ∈ lw_all := lw_g (lw_at lw_m7 153 rfl) rfl
theorem q1660 : (Jvm.Cond.privateMethod ({ cls := "EnclosureRefereeModel", name := "goes", desc := "(II)Z" } : Jvm.MethodName)) ∈ lw_tbl := lw_at lw_m7 154 rfl
theorem q1661 : (Jvm.Cond.instanceMethod ({ cls := "EnclosureRefereeModel", name := "goes", desc := "(II)Z" } : Jvm.MethodName)) ∈ lw_all := lw_g (lw_at lw_m7 155 rfl) rfl
theorem q1662 : (Jvm.Cond.code ({ cls := "EnclosureRefereeModel", name := "goes", desc := "(II)Z" } : Jvm.MethodName) prog_14_method_32_code (6 : Nat) (Option.some Jvm.ClassFile.FieldType.boolean)) ∈ lw_all := lw_g (lw_at lw_m7 156 rfl) rfl
theorem q1663 : (Jvm.Cond.methodLink "EnclosureRefereeModel" (157 : Nat) ({ cls := "EnclosureRefereeModel", name := "mayChoose", desc := "(I)Z" } : Jvm.MethodName)) ∈ lw_all := lw_g (lw_at lw_m7 157 rfl) rfl
theorem q1664 : (Jvm.Cond.privateMethod ({ cls := "EnclosureRefereeModel", name := "mayChoose", desc := "(I)Z" } : Jvm.MethodName)) ∈ lw_tbl := lw_at lw_m7 158 rfl
theorem q1665 : (Jvm.Cond.instanceMethod ({ cls := "EnclosureRefereeModel", name := "mayChoose", desc := "(I)Z" } : Jvm.MethodName)) ∈ lw_all := lw_g (lw_at lw_m7 159 rfl) rfl
theorem q1666 : (Jvm.Cond.code ({ cls := "EnclosureRefereeModel", name := "mayChoose", desc := "(I)Z" } : Jvm.MethodName) prog_14_method_29_code (2 : Nat) (Option.some Jvm.ClassFile.FieldType.boolean)) ∈ lw_all := lw_g (lw_at lw_m7 160 rfl) rfl
theorem q1667 : (Jvm.Cond.methodLink "EnclosureRefereeModel" (160 : Nat) ({ cls := "EnclosureRefereeModel", name := "reports", desc := "(II)V" } : Jvm.MethodName)) ∈ lw_all := lw_g (lw_at lw_m7 161 rfl) rfl
theorem q1668 : (Jvm.Cond.privateMethod ({ cls := "EnclosureRefereeModel", name := "reports", desc := "(II)V" } : Jvm.MethodName)) ∈ lw_tbl := lw_at lw_m7 162 rfl
theorem q1669 : (Jvm.Cond.instanceMethod ({ cls := "EnclosureRefereeModel", name := "reports", desc := "(II)V" } : Jvm.MethodName)) ∈ lw_all := lw_g (lw_at lw_m7 163 rfl) rfl
theorem q1670 : (Jvm.Cond.code ({ cls := "EnclosureRefereeModel", name := "reports", desc := "(II)V" } : Jvm.MethodName) prog_14_method_31_code (3 : Nat) (Option.none : Option Jvm.ClassFile.FieldType)) ∈ lw_all := lw_g (lw_at lw_m7 164 rfl) rfl
theorem q1671 : (Jvm.Cond.methodLink "EnclosureRefereeModel" (164 : Nat) ({ cls := "EnclosureRefereeModel", name := "plays", desc := "(II)V" } : Jvm.MethodName)) ∈ lw_all := lw_g (lw_at lw_m7 165 rfl) rfl
theorem q1672 : (Jvm.Cond.privateMethod ({ cls := "EnclosureRefereeModel", name := "plays", desc := "(II)V" } : Jvm.MethodName)) ∈ lw_tbl := lw_at lw_m7 166 rfl
theorem q1673 : (Jvm.Cond.instanceMethod ({ cls := "EnclosureRefereeModel", name := "plays", desc := "(II)V" } : Jvm.MethodName)) ∈ lw_all := lw_g (lw_at lw_m7 167 rfl) rfl
theorem q1674 : (Jvm.Cond.code ({ cls := "EnclosureRefereeModel", name := "plays", desc := "(II)V" } : Jvm.MethodName) prog_14_method_28_code (5 : Nat) (Option.none : Option Jvm.ClassFile.FieldType)) ∈ lw_all := lw_g (lw_at lw_m7 168 rfl) rfl
theorem q1675 : (Jvm.Cond.methodLink "EnclosureRefereeModel" (138 : Nat) ({ cls := "EnclosureRefereeModel", name := "score", desc := "(I)I" } : Jvm.MethodName)) ∈ lw_all := lw_g (lw_at lw_m7 169 rfl) rfl
theorem q1676 : (Jvm.Cond.privateMethod ({ cls := "EnclosureRefereeModel", name := "score", desc := "(I)I" } : Jvm.MethodName)) ∈ lw_tbl := lw_at lw_m7 170 rfl
theorem q1677 : (Jvm.Cond.instanceMethod ({ cls := "EnclosureRefereeModel", name := "score", desc := "(I)I" } : Jvm.MethodName)) ∈ lw_all := lw_g (lw_at lw_m7 171 rfl) rfl
theorem q1678 : (Jvm.Cond.code ({ cls := "EnclosureRefereeModel", name := "score", desc := "(I)I" } : Jvm.MethodName) prog_14_method_22_code (2 : Nat) (Option.some Jvm.ClassFile.FieldType.int)) ∈ lw_all := lw_g (lw_at lw_m7 172 rfl) rfl
theorem q1679 : (Jvm.Cond.methodLink "EnclosureRefereeModel" (131 : Nat) ({ cls := "EnclosureRefereeModel", name := "becomes", desc := "(III)V" } : Jvm.MethodName)) ∈ lw_all := lw_g (lw_at lw_m7 173 rfl) rfl
theorem q1680 : (Jvm.Cond.privateMethod ({ cls := "EnclosureRefereeModel", name := "becomes", desc := "(III)V" } : Jvm.MethodName)) ∈ lw_tbl := lw_at lw_m7 174 rfl
theorem q1681 : (Jvm.Cond.instanceMethod ({ cls := "EnclosureRefereeModel", name := "becomes", desc := "(III)V" } : Jvm.MethodName)) ∈ lw_all := lw_g (lw_at lw_m7 175 rfl) rfl
theorem q1682 : (Jvm.Cond.code ({ cls := "EnclosureRefereeModel", name := "becomes", desc := "(III)V" } : Jvm.MethodName) prog_14_method_25_code (4 : Nat) (Option.none : Option Jvm.ClassFile.FieldType)) ∈ lw_all := lw_g (lw_at lw_m7 176 rfl) rfl
theorem q1683 : (Jvm.Cond.methodLink "EnclosureRefereeModel" (147 : Nat) ({ cls := "EnclosureRefereeModel", name := "wave", desc := "(I)I" } : Jvm.MethodName)) ∈ lw_all := lw_g (lw_at lw_m7 177 rfl) rfl
theorem q1684 : (Jvm.Cond.privateMethod ({ cls := "EnclosureRefereeModel", name := "wave", desc := "(I)I" } : Jvm.MethodName)) ∈ lw_tbl := lw_at lw_m7 178 rfl
theorem q1685 : (Jvm.Cond.instanceMethod ({ cls := "EnclosureRefereeModel", name := "wave", desc := "(I)I" } : Jvm.MethodName)) ∈ lw_all := lw_g (lw_at lw_m7 179 rfl) rfl
theorem q1686 : (Jvm.Cond.code ({ cls := "EnclosureRefereeModel", name := "wave", desc := "(I)I" } : Jvm.MethodName) prog_14_method_27_code (7 : Nat) (Option.some Jvm.ClassFile.FieldType.int)) ∈ lw_all := lw_g (lw_at lw_m7 180 rfl) rfl
theorem q1687 : (Jvm.Cond.methodLink "EnclosureRefereeModel" (128 : Nat) ({ cls := "EnclosureRefereeModel", name := "encloses", desc := "(I)V" } : Jvm.MethodName)) ∈ lw_all := lw_g (lw_at lw_m7 181 rfl) rfl
theorem q1688 : (Jvm.Cond.privateMethod ({ cls := "EnclosureRefereeModel", name := "encloses", desc := "(I)V" } : Jvm.MethodName)) ∈ lw_tbl := lw_at lw_m7 182 rfl
theorem q1689 : (Jvm.Cond.instanceMethod ({ cls := "EnclosureRefereeModel", name := "encloses", desc := "(I)V" } : Jvm.MethodName)) ∈ lw_all := lw_g (lw_at lw_m7 183 rfl) rfl
theorem q1690 : (Jvm.Cond.code ({ cls := "EnclosureRefereeModel", name := "encloses", desc := "(I)V" } : Jvm.MethodName) prog_14_method_26_code (10 : Nat) (Option.none : Option Jvm.ClassFile.FieldType)) ∈ lw_all := lw_g (lw_at lw_m7 184 rfl) rfl
theorem q1691 : (Jvm.Cond.methodLink "EnclosureRefereeModel" (111 : Nat) ({ cls := "EnclosureRefereeModel", name := "outside", desc := "(I)J" } : Jvm.MethodName)) ∈ lw_all := lw_g (lw_at lw_m7 185 rfl) rfl
theorem q1692 : (Jvm.Cond.privateMethod ({ cls := "EnclosureRefereeModel", name := "outside", desc := "(I)J" } : Jvm.MethodName)) ∈ lw_tbl := lw_at lw_m7 186 rfl
theorem q1693 : (Jvm.Cond.instanceMethod ({ cls := "EnclosureRefereeModel", name := "outside", desc := "(I)J" } : Jvm.MethodName)) ∈ lw_all := lw_g (lw_at lw_m7 187 rfl) rfl
theorem q1694 : (Jvm.Cond.code ({ cls := "EnclosureRefereeModel", name := "outside", desc := "(I)J" } : Jvm.MethodName) prog_14_method_21_code (2 : Nat) (Option.some Jvm.ClassFile.FieldType.long)) ∈ lw_all := lw_g (lw_at lw_m7 188 rfl) rfl
theorem q1695 : (Jvm.Cond.methodLink "EnclosureRefereeModel" (97 : Nat) ({ cls := "EnclosureRefereeModel", name := "all", desc := "()J" } : Jvm.MethodName)) ∈ lw_all := lw_g (lw_at lw_m7 189 rfl) rfl
theorem q1696 : (Jvm.Cond.privateMethod ({ cls := "EnclosureRefereeModel", name := "all", desc := "()J" } : Jvm.MethodName)) ∈ lw_tbl := lw_at lw_m7 190 rfl
theorem q1697 : (Jvm.Cond.instanceMethod ({ cls := "EnclosureRefereeModel", name := "all", desc := "()J" } : Jvm.MethodName)) ∈ lw_all := lw_g (lw_at lw_m7 191 rfl) rfl
theorem q1698 : (Jvm.Cond.code ({ cls := "EnclosureRefereeModel", name := "all", desc := "()J" } : Jvm.MethodName) prog_14_method_14_code (1 : Nat) (Option.some Jvm.ClassFile.FieldType.long)) ∈ lw_all := lw_g (lw_at lw_m7 192 rfl) rfl
theorem q1699 : (Jvm.Cond.methodLink "EnclosureRefereeModel" (105 : Nat) ({ cls := "EnclosureRefereeModel", name := "bits", desc := "(I)J" } : Jvm.MethodName)) ∈ lw_all := lw_g (lw_at lw_m7 193 rfl) rfl
theorem q1700 : (Jvm.Cond.privateMethod ({ cls := "EnclosureRefereeModel", name := "bits", desc := "(I)J" } : Jvm.MethodName)) ∈ lw_tbl := lw_at lw_m7 194 rfl
theorem q1701 : (Jvm.Cond.instanceMethod ({ cls := "EnclosureRefereeModel", name := "bits", desc := "(I)J" } : Jvm.MethodName)) ∈ lw_all := lw_g (lw_at lw_m7 195 rfl) rfl
theorem q1702 : (Jvm.Cond.code ({ cls := "EnclosureRefereeModel", name := "bits", desc := "(I)J" } : Jvm.MethodName) prog_14_method_13_code (5 : Nat) (Option.some Jvm.ClassFile.FieldType.long)) ∈ lw_all := lw_g (lw_at lw_m7 196 rfl) rfl
theorem q1703 : (Jvm.Cond.constantLong "EnclosureRefereeModel" (95 : Nat) (-1 : Int64)) ∈ lw_all := lw_g (lw_at lw_m7 197 rfl) rfl
theorem q1704 : (Jvm.Cond.methodLink "EnclosureRefereeModel" (114 : Nat) ({ cls := "EnclosureRefereeModel", name := "edge", desc := "()J" } : Jvm.MethodName)) ∈ lw_all := lw_g (lw_at lw_m7 198 rfl) rfl
theorem q1705 : (Jvm.Cond.privateMethod ({ cls := "EnclosureRefereeModel", name := "edge", desc := "()J" } : Jvm.MethodName)) ∈ lw_tbl := lw_at lw_m7 199 rfl
theorem q1706 : (Jvm.Cond.instanceMethod ({ cls := "EnclosureRefereeModel", name := "edge", desc := "()J" } : Jvm.MethodName)) ∈ lw_all := lw_g (lw_at lw_m7 200 rfl) rfl
theorem q1707 : (Jvm.Cond.code ({ cls := "EnclosureRefereeModel", name := "edge", desc := "()J" } : Jvm.MethodName) prog_14_method_16_code (3 : Nat) (Option.some Jvm.ClassFile.FieldType.long)) ∈ lw_all := lw_g (lw_at lw_m7 201 rfl) rfl
theorem q1708 : (Jvm.Cond.methodLink "EnclosureRefereeModel" (91 : Nat) ({ cls := "EnclosureRefereeModel", name := "column", desc := "(I)J" } : Jvm.MethodName)) ∈ lw_all := lw_g (lw_at lw_m7 202 rfl) rfl
theorem q1709 : (Jvm.Cond.privateMethod ({ cls := "EnclosureRefereeModel", name := "column", desc := "(I)J" } : Jvm.MethodName)) ∈ lw_tbl := lw_at lw_m7 203 rfl
theorem q1710 : (Jvm.Cond.instanceMethod ({ cls := "EnclosureRefereeModel", name := "column", desc := "(I)J" } : Jvm.MethodName)) ∈ lw_all := lw_g (lw_at lw_m7 204 rfl) rfl
theorem q1711 : (Jvm.Cond.code ({ cls := "EnclosureRefereeModel", name := "column", desc := "(I)J" } : Jvm.MethodName) prog_14_method_15_code (5 : Nat) (Option.some Jvm.ClassFile.FieldType.long)) ∈ lw_all := lw_g (lw_at lw_m7 205 rfl) rfl
theorem q1712 : (Jvm.Cond.methodLink "EnclosureRefereeModel" (117 : Nat) ({ cls := "EnclosureRefereeModel", name := "lowest", desc := "(J)I" } : Jvm.MethodName)) ∈ lw_all := lw_g (lw_at lw_m7 206 rfl) rfl
theorem q1713 : (Jvm.Cond.static ({ cls := "EnclosureRefereeModel", name := "lowest", desc := "(J)I" } : Jvm.MethodName)) ∈ lw_all := lw_g (lw_at lw_m7 207 rfl) rfl
theorem q1714 : (Jvm.Cond.code ({ cls := "EnclosureRefereeModel", name := "lowest", desc := "(J)I" } : Jvm.MethodName) prog_14_method_20_code (3 : Nat) (Option.some Jvm.ClassFile.FieldType.int)) ∈ lw_all := lw_g (lw_at lw_m7 208 rfl) rfl
theorem q1715 : (Jvm.Cond.methodLink "EnclosureRefereeModel" (121 : Nat) ({ cls := "EnclosureRefereeModel", name := "connected", desc := "(JI)J" } : Jvm.MethodName)) ∈ lw_all := lw_g (lw_at lw_m7 209 rfl) rfl
theorem q1716 : (Jvm.Cond.privateMethod ({ cls := "EnclosureRefereeModel", name := "connected", desc := "(JI)J" } : Jvm.MethodName)) ∈ lw_tbl := lw_at lw_m7 210 rfl
theorem q1717 : (Jvm.Cond.instanceMethod ({ cls := "EnclosureRefereeModel", name := "connected", desc := "(JI)J" } : Jvm.MethodName)) ∈ lw_all := lw_g (lw_at lw_m7 211 rfl) rfl
theorem q1718 : (Jvm.Cond.code ({ cls := "EnclosureRefereeModel", name := "connected", desc := "(JI)J" } : Jvm.MethodName) prog_14_method_18_code (8 : Nat) (Option.some Jvm.ClassFile.FieldType.long)) ∈ lw_all := lw_g (lw_at lw_m7 212 rfl) rfl
theorem q1719 : (Jvm.Cond.methodLink "EnclosureRefereeModel" (101 : Nat) ({ cls := "EnclosureRefereeModel", name := "grown", desc := "(J)J" } : Jvm.MethodName)) ∈ lw_all := lw_g (lw_at lw_m7 213 rfl) rfl
theorem q1720 : (Jvm.Cond.privateMethod ({ cls := "EnclosureRefereeModel", name := "grown", desc := "(J)J" } : Jvm.MethodName)) ∈ lw_tbl := lw_at lw_m7 214 rfl
theorem q1721 : (Jvm.Cond.instanceMethod ({ cls := "EnclosureRefereeModel", name := "grown", desc := "(J)J" } : Jvm.MethodName)) ∈ lw_all := lw_g (lw_at lw_m7 215 rfl) rfl
theorem q1722 : (Jvm.Cond.code ({ cls := "EnclosureRefereeModel", name := "grown", desc := "(J)J" } : Jvm.MethodName) prog_14_method_17_code (3 : Nat) (Option.some Jvm.ClassFile.FieldType.long)) ∈ lw_all := lw_g (lw_at lw_m7 216 rfl) rfl
theorem q1723 : (Jvm.Cond.methodLink "EnclosureRefereeModel" (125 : Nat) ({ cls := "EnclosureRefereeModel", name := "size", desc := "(J)I" } : Jvm.MethodName)) ∈ lw_all := lw_g (lw_at lw_m7 217 rfl) rfl
theorem q1724 : (Jvm.Cond.static ({ cls := "EnclosureRefereeModel", name := "size", desc := "(J)I" } : Jvm.MethodName)) ∈ lw_all := lw_g (lw_at lw_m7 218 rfl) rfl
theorem q1725 : (Jvm.Cond.code ({ cls := "EnclosureRefereeModel", name := "size", desc := "(J)I" } : Jvm.MethodName) prog_14_method_19_code (4 : Nat) (Option.some Jvm.ClassFile.FieldType.int)) ∈ lw_all := lw_g (lw_at lw_m7 219 rfl) rfl
theorem q1726 : (Jvm.Cond.methodLink "EnclosureRefereeModel" (178 : Nat) ({ cls := "EnclosureRefereeModel", name := "no", desc := "(I)I" } : Jvm.MethodName)) ∈ lw_all := lw_g (lw_at lw_m7 220 rfl) rfl
theorem q1727 : (Jvm.Cond.privateMethod ({ cls := "EnclosureRefereeModel", name := "no", desc := "(I)I" } : Jvm.MethodName)) ∈ lw_tbl := lw_at lw_m7 221 rfl
theorem q1728 : (Jvm.Cond.instanceMethod ({ cls := "EnclosureRefereeModel", name := "no", desc := "(I)I" } : Jvm.MethodName)) ∈ lw_all := lw_g (lw_at lw_m7 222 rfl) rfl
theorem q1729 : (Jvm.Cond.code ({ cls := "EnclosureRefereeModel", name := "no", desc := "(I)I" } : Jvm.MethodName) prog_14_method_3_code (2 : Nat) (Option.some Jvm.ClassFile.FieldType.int)) ∈ lw_all := lw_g (lw_at lw_m7 223 rfl) rfl
theorem q1731 : (Jvm.Cond.instanceMethod ({ cls := "EnclosureRefereeModel", name := "undo", desc := "()I" } : Jvm.MethodName)) ∈ lw_all := lw_g (lw_at lw_m7 225 rfl) rfl
theorem q1732 : (Jvm.Cond.selects "EnclosureRefereeModel" ({ cls := "EnclosureRefereeModel", name := "undo", desc := "()I" } : Jvm.MethodName) ({ cls := "EnclosureRefereeModel", name := "undo", desc := "()I" } : Jvm.MethodName)) ∈ lw_all := lw_g (lw_at lw_m7 226 rfl) rfl
theorem q1733 : (Jvm.Cond.code ({ cls := "EnclosureRefereeModel", name := "undo", desc := "()I" } : Jvm.MethodName) prog_14_method_34_code (3 : Nat) (Option.some Jvm.ClassFile.FieldType.int)) ∈ lw_all := lw_g (lw_at lw_m7 227 rfl) rfl
theorem q1735 : (Jvm.Cond.instanceMethod ({ cls := "EnclosureRefereeModel", name := "isOver", desc := "()Z" } : Jvm.MethodName)) ∈ lw_all := lw_g (lw_at lw_m7 229 rfl) rfl
theorem q1736 : (Jvm.Cond.selects "EnclosureRefereeModel" ({ cls := "EnclosureRefereeModel", name := "isOver", desc := "()Z" } : Jvm.MethodName) ({ cls := "EnclosureRefereeModel", name := "isOver", desc := "()Z" } : Jvm.MethodName)) ∈ lw_all := lw_g (lw_at lw_m7 230 rfl) rfl
theorem q1737 : (Jvm.Cond.code ({ cls := "EnclosureRefereeModel", name := "isOver", desc := "()Z" } : Jvm.MethodName) prog_14_method_35_code (1 : Nat) (Option.some Jvm.ClassFile.FieldType.boolean)) ∈ lw_all := lw_g (lw_at lw_m7 231 rfl) rfl
theorem q1739 : (Jvm.Cond.instanceMethod ({ cls := "EnclosureRefereeModel", name := "cell", desc := "(II)I" } : Jvm.MethodName)) ∈ lw_all := lw_g (lw_at lw_m7 233 rfl) rfl
theorem q1740 : (Jvm.Cond.selects "EnclosureRefereeModel" ({ cls := "EnclosureRefereeModel", name := "cell", desc := "(II)I" } : Jvm.MethodName) ({ cls := "EnclosureRefereeModel", name := "cell", desc := "(II)I" } : Jvm.MethodName)) ∈ lw_all := lw_g (lw_at lw_m7 234 rfl) rfl
theorem q1741 : (Jvm.Cond.code ({ cls := "EnclosureRefereeModel", name := "cell", desc := "(II)I" } : Jvm.MethodName) prog_14_method_36_code (3 : Nat) (Option.some Jvm.ClassFile.FieldType.int)) ∈ lw_all := lw_g (lw_at lw_m7 235 rfl) rfl
theorem q1743 : (Jvm.Cond.instanceMethod ({ cls := "EnclosureRefereeModel", name := "since", desc := "(II)I" } : Jvm.MethodName)) ∈ lw_all := lw_g (lw_at lw_m7 237 rfl) rfl
theorem q1744 : (Jvm.Cond.selects "EnclosureRefereeModel" ({ cls := "EnclosureRefereeModel", name := "since", desc := "(II)I" } : Jvm.MethodName) ({ cls := "EnclosureRefereeModel", name := "since", desc := "(II)I" } : Jvm.MethodName)) ∈ lw_all := lw_g (lw_at lw_m7 238 rfl) rfl
theorem q1745 : (Jvm.Cond.code ({ cls := "EnclosureRefereeModel", name := "since", desc := "(II)I" } : Jvm.MethodName) prog_14_method_37_code (3 : Nat) (Option.some Jvm.ClassFile.FieldType.int)) ∈ lw_all := lw_g (lw_at lw_m7 239 rfl) rfl
theorem q1747 : (Jvm.Cond.instanceMethod ({ cls := "EnclosureRefereeModel", name := "count", desc := "(I)I" } : Jvm.MethodName)) ∈ lw_all := lw_g (lw_at lw_m8 1 rfl) rfl
theorem q1748 : (Jvm.Cond.selects "EnclosureRefereeModel" ({ cls := "EnclosureRefereeModel", name := "count", desc := "(I)I" } : Jvm.MethodName) ({ cls := "EnclosureRefereeModel", name := "count", desc := "(I)I" } : Jvm.MethodName)) ∈ lw_all := lw_g (lw_at lw_m8 2 rfl) rfl
theorem q1749 : (Jvm.Cond.code ({ cls := "EnclosureRefereeModel", name := "count", desc := "(I)I" } : Jvm.MethodName) prog_14_method_38_code (2 : Nat) (Option.some Jvm.ClassFile.FieldType.int)) ∈ lw_all := lw_g (lw_at lw_m8 3 rfl) rfl
theorem q1751 : (Jvm.Cond.instanceMethod ({ cls := "EnclosureRefereeModel", name := "player", desc := "(II)I" } : Jvm.MethodName)) ∈ lw_all := lw_g (lw_at lw_m8 5 rfl) rfl
theorem q1752 : (Jvm.Cond.selects "EnclosureRefereeModel" ({ cls := "EnclosureRefereeModel", name := "player", desc := "(II)I" } : Jvm.MethodName) ({ cls := "EnclosureRefereeModel", name := "player", desc := "(II)I" } : Jvm.MethodName)) ∈ lw_all := lw_g (lw_at lw_m8 6 rfl) rfl
theorem q1753 : (Jvm.Cond.code ({ cls := "EnclosureRefereeModel", name := "player", desc := "(II)I" } : Jvm.MethodName) prog_14_method_40_code (3 : Nat) (Option.some Jvm.ClassFile.FieldType.int)) ∈ lw_all := lw_g (lw_at lw_m8 7 rfl) rfl
theorem q1754 : (Jvm.Cond.methodLink "EnclosureRefereeModel" (181 : Nat) ({ cls := "EnclosureRefereeModel", name := "regions", desc := "(IZ)I" } : Jvm.MethodName)) ∈ lw_all := lw_g (lw_at lw_m8 8 rfl) rfl
theorem q1755 : (Jvm.Cond.privateMethod ({ cls := "EnclosureRefereeModel", name := "regions", desc := "(IZ)I" } : Jvm.MethodName)) ∈ lw_tbl := lw_at lw_m8 9 rfl
theorem q1756 : (Jvm.Cond.instanceMethod ({ cls := "EnclosureRefereeModel", name := "regions", desc := "(IZ)I" } : Jvm.MethodName)) ∈ lw_all := lw_g (lw_at lw_m8 10 rfl) rfl
theorem q1757 : (Jvm.Cond.code ({ cls := "EnclosureRefereeModel", name := "regions", desc := "(IZ)I" } : Jvm.MethodName) prog_14_method_39_code (9 : Nat) (Option.some Jvm.ClassFile.FieldType.int)) ∈ lw_all := lw_g (lw_at lw_m8 11 rfl) rfl
theorem q1759 : (Jvm.Cond.instanceMethod ({ cls := "EnclosureRefereeModel", name := "region", desc := "(II)J" } : Jvm.MethodName)) ∈ lw_all := lw_g (lw_at lw_m8 13 rfl) rfl
theorem q1760 : (Jvm.Cond.selects "EnclosureRefereeModel" ({ cls := "EnclosureRefereeModel", name := "region", desc := "(II)J" } : Jvm.MethodName) ({ cls := "EnclosureRefereeModel", name := "region", desc := "(II)J" } : Jvm.MethodName)) ∈ lw_all := lw_g (lw_at lw_m8 14 rfl) rfl
theorem q1761 : (Jvm.Cond.code ({ cls := "EnclosureRefereeModel", name := "region", desc := "(II)J" } : Jvm.MethodName) prog_14_method_42_code (3 : Nat) (Option.some Jvm.ClassFile.FieldType.long)) ∈ lw_all := lw_g (lw_at lw_m8 15 rfl) rfl
theorem q1762 : (Jvm.Cond.methodLink "EnclosureRefereeModel" (185 : Nat) ({ cls := "EnclosureRefereeModel", name := "isOutside", desc := "(II)Z" } : Jvm.MethodName)) ∈ lw_all := lw_g (lw_at lw_m8 16 rfl) rfl
theorem q1763 : (Jvm.Cond.privateMethod ({ cls := "EnclosureRefereeModel", name := "isOutside", desc := "(II)Z" } : Jvm.MethodName)) ∈ lw_tbl := lw_at lw_m8 17 rfl
theorem q1764 : (Jvm.Cond.instanceMethod ({ cls := "EnclosureRefereeModel", name := "isOutside", desc := "(II)Z" } : Jvm.MethodName)) ∈ lw_all := lw_g (lw_at lw_m8 18 rfl) rfl
theorem q1765 : (Jvm.Cond.code ({ cls := "EnclosureRefereeModel", name := "isOutside", desc := "(II)Z" } : Jvm.MethodName) prog_14_method_41_code (3 : Nat) (Option.some Jvm.ClassFile.FieldType.boolean)) ∈ lw_all := lw_g (lw_at lw_m8 19 rfl) rfl
theorem q1767 : (Jvm.Cond.instanceMethod ({ cls := "EnclosureRefereeModel", name := "cells", desc := "(I)J" } : Jvm.MethodName)) ∈ lw_all := lw_g (lw_at lw_m8 21 rfl) rfl
theorem q1768 : (Jvm.Cond.selects "EnclosureRefereeModel" ({ cls := "EnclosureRefereeModel", name := "cells", desc := "(I)J" } : Jvm.MethodName) ({ cls := "EnclosureRefereeModel", name := "cells", desc := "(I)J" } : Jvm.MethodName)) ∈ lw_all := lw_g (lw_at lw_m8 22 rfl) rfl
theorem q1769 : (Jvm.Cond.code ({ cls := "EnclosureRefereeModel", name := "cells", desc := "(I)J" } : Jvm.MethodName) prog_14_method_43_code (2 : Nat) (Option.some Jvm.ClassFile.FieldType.long)) ∈ lw_all := lw_g (lw_at lw_m8 23 rfl) rfl
theorem q1771 : (Jvm.Cond.instanceMethod ({ cls := "EnclosureRefereeModel", name := "chain", desc := "(I)J" } : Jvm.MethodName)) ∈ lw_all := lw_g (lw_at lw_m8 25 rfl) rfl
theorem q1772 : (Jvm.Cond.selects "EnclosureRefereeModel" ({ cls := "EnclosureRefereeModel", name := "chain", desc := "(I)J" } : Jvm.MethodName) ({ cls := "EnclosureRefereeModel", name := "chain", desc := "(I)J" } : Jvm.MethodName)) ∈ lw_all := lw_g (lw_at lw_m8 26 rfl) rfl
theorem q1773 : (Jvm.Cond.code ({ cls := "EnclosureRefereeModel", name := "chain", desc := "(I)J" } : Jvm.MethodName) prog_14_method_44_code (2 : Nat) (Option.some Jvm.ClassFile.FieldType.long)) ∈ lw_all := lw_g (lw_at lw_m8 27 rfl) rfl
theorem q1775 : (Jvm.Cond.instanceMethod ({ cls := "EnclosureRefereeModel", name := "stonesToEnclose", desc := "(II)I" } : Jvm.MethodName)) ∈ lw_all := lw_g (lw_at lw_m8 29 rfl) rfl
theorem q1776 : (Jvm.Cond.selects "EnclosureRefereeModel" ({ cls := "EnclosureRefereeModel", name := "stonesToEnclose", desc := "(II)I" } : Jvm.MethodName) ({ cls := "EnclosureRefereeModel", name := "stonesToEnclose", desc := "(II)I" } : Jvm.MethodName)) ∈ lw_all := lw_g (lw_at lw_m8 30 rfl) rfl
theorem q1777 : (Jvm.Cond.code ({ cls := "EnclosureRefereeModel", name := "stonesToEnclose", desc := "(II)I" } : Jvm.MethodName) prog_14_method_46_code (10 : Nat) (Option.some Jvm.ClassFile.FieldType.int)) ∈ lw_all := lw_g (lw_at lw_m8 31 rfl) rfl
theorem q1778 : (Jvm.Cond.methodLink "EnclosureRefereeModel" (188 : Nat) ({ cls := "EnclosureRefereeModel", name := "isEnclosed", desc := "(JI)Z" } : Jvm.MethodName)) ∈ lw_all := lw_g (lw_at lw_m8 32 rfl) rfl
theorem q1779 : (Jvm.Cond.privateMethod ({ cls := "EnclosureRefereeModel", name := "isEnclosed", desc := "(JI)Z" } : Jvm.MethodName)) ∈ lw_tbl := lw_at lw_m8 33 rfl
theorem q1780 : (Jvm.Cond.instanceMethod ({ cls := "EnclosureRefereeModel", name := "isEnclosed", desc := "(JI)Z" } : Jvm.MethodName)) ∈ lw_all := lw_g (lw_at lw_m8 34 rfl) rfl
theorem q1781 : (Jvm.Cond.code ({ cls := "EnclosureRefereeModel", name := "isEnclosed", desc := "(JI)Z" } : Jvm.MethodName) prog_14_method_45_code (4 : Nat) (Option.some Jvm.ClassFile.FieldType.boolean)) ∈ lw_all := lw_g (lw_at lw_m8 35 rfl) rfl
theorem q1783 : (Jvm.Cond.instanceMethod ({ cls := "EnclosureRefereeModel", name := "share", desc := "(I)D" } : Jvm.MethodName)) ∈ lw_all := lw_g (lw_at lw_m8 37 rfl) rfl
theorem q1784 : (Jvm.Cond.selects "EnclosureRefereeModel" ({ cls := "EnclosureRefereeModel", name := "share", desc := "(I)D" } : Jvm.MethodName) ({ cls := "EnclosureRefereeModel", name := "share", desc := "(I)D" } : Jvm.MethodName)) ∈ lw_all := lw_g (lw_at lw_m8 38 rfl) rfl
theorem q1785 : (Jvm.Cond.code ({ cls := "EnclosureRefereeModel", name := "share", desc := "(I)D" } : Jvm.MethodName) prog_14_method_47_code (2 : Nat) (Option.some Jvm.ClassFile.FieldType.double)) ∈ lw_all := lw_g (lw_at lw_m8 39 rfl) rfl
theorem q1787 : (Jvm.Cond.instanceMethod ({ cls := "EnclosureRefereeModel", name := "round", desc := "(II)I" } : Jvm.MethodName)) ∈ lw_all := lw_g (lw_at lw_m8 41 rfl) rfl
theorem q1788 : (Jvm.Cond.selects "EnclosureRefereeModel" ({ cls := "EnclosureRefereeModel", name := "round", desc := "(II)I" } : Jvm.MethodName) ({ cls := "EnclosureRefereeModel", name := "round", desc := "(II)I" } : Jvm.MethodName)) ∈ lw_all := lw_g (lw_at lw_m8 42 rfl) rfl
theorem q1789 : (Jvm.Cond.code ({ cls := "EnclosureRefereeModel", name := "round", desc := "(II)I" } : Jvm.MethodName) prog_14_method_48_code (3 : Nat) (Option.some Jvm.ClassFile.FieldType.int)) ∈ lw_all := lw_g (lw_at lw_m8 43 rfl) rfl
theorem q1791 : (Jvm.Cond.instanceMethod ({ cls := "EnclosureRefereeModel", name := "turningPoint", desc := "()I" } : Jvm.MethodName)) ∈ lw_all := lw_g (lw_at lw_m8 45 rfl) rfl
theorem q1792 : (Jvm.Cond.selects "EnclosureRefereeModel" ({ cls := "EnclosureRefereeModel", name := "turningPoint", desc := "()I" } : Jvm.MethodName) ({ cls := "EnclosureRefereeModel", name := "turningPoint", desc := "()I" } : Jvm.MethodName)) ∈ lw_all := lw_g (lw_at lw_m8 46 rfl) rfl
theorem q1793 : (Jvm.Cond.code ({ cls := "EnclosureRefereeModel", name := "turningPoint", desc := "()I" } : Jvm.MethodName) prog_14_method_49_code (7 : Nat) (Option.some Jvm.ClassFile.FieldType.int)) ∈ lw_all := lw_g (lw_at lw_m8 47 rfl) rfl
theorem q1795 : (Jvm.Cond.instanceMethod ({ cls := "EnclosureRefereeModel", name := "guarantee", desc := "(III)I" } : Jvm.MethodName)) ∈ lw_all := lw_g (lw_at lw_m8 49 rfl) rfl
theorem q1796 : (Jvm.Cond.selects "EnclosureRefereeModel" ({ cls := "EnclosureRefereeModel", name := "guarantee", desc := "(III)I" } : Jvm.MethodName) ({ cls := "EnclosureRefereeModel", name := "guarantee", desc := "(III)I" } : Jvm.MethodName)) ∈ lw_all := lw_g (lw_at lw_m8 50 rfl) rfl
theorem q1797 : (Jvm.Cond.code ({ cls := "EnclosureRefereeModel", name := "guarantee", desc := "(III)I" } : Jvm.MethodName) prog_14_method_56_code (4 : Nat) (Option.some Jvm.ClassFile.FieldType.int)) ∈ lw_all := lw_g (lw_at lw_m8 51 rfl) rfl
theorem q1798 : (Jvm.Cond.methodLink "EnclosureRefereeModel" (216 : Nat) ({ cls := "EnclosureRefereeModel", name := "guaranteed", desc := "(III)I" } : Jvm.MethodName)) ∈ lw_all := lw_g (lw_at lw_m8 52 rfl) rfl
theorem q1799 : (Jvm.Cond.privateMethod ({ cls := "EnclosureRefereeModel", name := "guaranteed", desc := "(III)I" } : Jvm.MethodName)) ∈ lw_tbl := lw_at lw_m8 53 rfl
theorem q1800 : (Jvm.Cond.instanceMethod ({ cls := "EnclosureRefereeModel", name := "guaranteed", desc := "(III)I" } : Jvm.MethodName)) ∈ lw_all := lw_g (lw_at lw_m8 54 rfl) rfl
theorem q1801 : (Jvm.Cond.code ({ cls := "EnclosureRefereeModel", name := "guaranteed", desc := "(III)I" } : Jvm.MethodName) prog_14_method_55_code (4 : Nat) (Option.some Jvm.ClassFile.FieldType.int)) ∈ lw_all := lw_g (lw_at lw_m8 55 rfl) rfl
theorem q1802 : (Jvm.Cond.methodLink "EnclosureRefereeModel" (206 : Nat) ({ cls := "EnclosureRefereeModel", name := "near", desc := "(II)I" } : Jvm.MethodName)) ∈ lw_all := lw_g (lw_at lw_m8 56 rfl) rfl
theorem q1803 : (Jvm.Cond.privateMethod ({ cls := "EnclosureRefereeModel", name := "near", desc := "(II)I" } : Jvm.MethodName)) ∈ lw_tbl := lw_at lw_m8 57 rfl
theorem q1804 : (Jvm.Cond.instanceMethod ({ cls := "EnclosureRefereeModel", name := "near", desc := "(II)I" } : Jvm.MethodName)) ∈ lw_all := lw_g (lw_at lw_m8 58 rfl) rfl
theorem q1805 : (Jvm.Cond.code ({ cls := "EnclosureRefereeModel", name := "near", desc := "(II)I" } : Jvm.MethodName) prog_14_method_52_code (6 : Nat) (Option.some Jvm.ClassFile.FieldType.int)) ∈ lw_all := lw_g (lw_at lw_m8 59 rfl) rfl
theorem q1806 : (Jvm.Cond.methodLink "EnclosureRefereeModel" (192 : Nat) ({ cls := "EnclosureRefereeModel", name := "copies", desc := "([I[II)V" } : Jvm.MethodName)) ∈ lw_all := lw_g (lw_at lw_m8 60 rfl) rfl
theorem q1807 : (Jvm.Cond.static ({ cls := "EnclosureRefereeModel", name := "copies", desc := "([I[II)V" } : Jvm.MethodName)) ∈ lw_all := lw_g (lw_at lw_m8 61 rfl) rfl
theorem q1808 : (Jvm.Cond.code ({ cls := "EnclosureRefereeModel", name := "copies", desc := "([I[II)V" } : Jvm.MethodName) prog_14_method_5_code (4 : Nat) (Option.none : Option Jvm.ClassFile.FieldType)) ∈ lw_all := lw_g (lw_at lw_m8 62 rfl) rfl
theorem q1809 : (Jvm.Cond.constant "EnclosureRefereeModel" (198 : Nat) (2147483647 : Int32)) ∈ lw_all := lw_g (lw_at lw_m8 63 rfl) rfl
theorem q1810 : (Jvm.Cond.methodLink "EnclosureRefereeModel" (199 : Nat) ({ cls := "EnclosureRefereeModel", name := "makes", desc := "(III)V" } : Jvm.MethodName)) ∈ lw_all := lw_g (lw_at lw_m8 64 rfl) rfl
theorem q1811 : (Jvm.Cond.privateMethod ({ cls := "EnclosureRefereeModel", name := "makes", desc := "(III)V" } : Jvm.MethodName)) ∈ lw_tbl := lw_at lw_m8 65 rfl
theorem q1812 : (Jvm.Cond.instanceMethod ({ cls := "EnclosureRefereeModel", name := "makes", desc := "(III)V" } : Jvm.MethodName)) ∈ lw_all := lw_g (lw_at lw_m8 66 rfl) rfl
theorem q1813 : (Jvm.Cond.code ({ cls := "EnclosureRefereeModel", name := "makes", desc := "(III)V" } : Jvm.MethodName) prog_14_method_51_code (4 : Nat) (Option.none : Option Jvm.ClassFile.FieldType)) ∈ lw_all := lw_g (lw_at lw_m8 67 rfl) rfl
theorem q1814 : (Jvm.Cond.methodLink "EnclosureRefereeModel" (202 : Nat) ({ cls := "EnclosureRefereeModel", name := "outcome", desc := "(I)I" } : Jvm.MethodName)) ∈ lw_all := lw_g (lw_at lw_m8 68 rfl) rfl
theorem q1815 : (Jvm.Cond.privateMethod ({ cls := "EnclosureRefereeModel", name := "outcome", desc := "(I)I" } : Jvm.MethodName)) ∈ lw_tbl := lw_at lw_m8 69 rfl
theorem q1816 : (Jvm.Cond.instanceMethod ({ cls := "EnclosureRefereeModel", name := "outcome", desc := "(I)I" } : Jvm.MethodName)) ∈ lw_all := lw_g (lw_at lw_m8 70 rfl) rfl
theorem q1817 : (Jvm.Cond.code ({ cls := "EnclosureRefereeModel", name := "outcome", desc := "(I)I" } : Jvm.MethodName) prog_14_method_50_code (2 : Nat) (Option.some Jvm.ClassFile.FieldType.int)) ∈ lw_all := lw_g (lw_at lw_m8 71 rfl) rfl
theorem q1818 : (Jvm.Cond.methodLink "EnclosureRefereeModel" (213 : Nat) ({ cls := "EnclosureRefereeModel", name := "far", desc := "(II)I" } : Jvm.MethodName)) ∈ lw_all := lw_g (lw_at lw_m8 72 rfl) rfl
theorem q1819 : (Jvm.Cond.privateMethod ({ cls := "EnclosureRefereeModel", name := "far", desc := "(II)I" } : Jvm.MethodName)) ∈ lw_tbl := lw_at lw_m8 73 rfl
theorem q1820 : (Jvm.Cond.instanceMethod ({ cls := "EnclosureRefereeModel", name := "far", desc := "(II)I" } : Jvm.MethodName)) ∈ lw_all := lw_g (lw_at lw_m8 74 rfl) rfl
theorem q1821 : (Jvm.Cond.code ({ cls := "EnclosureRefereeModel", name := "far", desc := "(II)I" } : Jvm.MethodName) prog_14_method_54_code (6 : Nat) (Option.some Jvm.ClassFile.FieldType.int)) ∈ lw_all := lw_g (lw_at lw_m8 75 rfl) rfl
theorem q1822 : (Jvm.Cond.methodLink "EnclosureRefereeModel" (210 : Nat) ({ cls := "EnclosureRefereeModel", name := "bestNear", desc := "(I)I" } : Jvm.MethodName)) ∈ lw_all := lw_g (lw_at lw_m8 76 rfl) rfl
theorem q1823 : (Jvm.Cond.privateMethod ({ cls := "EnclosureRefereeModel", name := "bestNear", desc := "(I)I" } : Jvm.MethodName)) ∈ lw_tbl := lw_at lw_m8 77 rfl
theorem q1824 : (Jvm.Cond.instanceMethod ({ cls := "EnclosureRefereeModel", name := "bestNear", desc := "(I)I" } : Jvm.MethodName)) ∈ lw_all := lw_g (lw_at lw_m8 78 rfl) rfl
theorem q1825 : (Jvm.Cond.code ({ cls := "EnclosureRefereeModel", name := "bestNear", desc := "(I)I" } : Jvm.MethodName) prog_14_method_53_code (5 : Nat) (Option.some Jvm.ClassFile.FieldType.int)) ∈ lw_all := lw_g (lw_at lw_m8 79 rfl) rfl
theorem q1826 : (Jvm.Cond.constant "EnclosureRefereeModel" (205 : Nat) (-2147483648 : Int32)) ∈ lw_all := lw_g (lw_at lw_m8 80 rfl) rfl
theorem q1828 : (Jvm.Cond.instanceMethod ({ cls := "EnclosureRefereeModel", name := "best", desc := "(II)I" } : Jvm.MethodName)) ∈ lw_all := lw_g (lw_at lw_m8 82 rfl) rfl
theorem q1829 : (Jvm.Cond.selects "EnclosureRefereeModel" ({ cls := "EnclosureRefereeModel", name := "best", desc := "(II)I" } : Jvm.MethodName) ({ cls := "EnclosureRefereeModel", name := "best", desc := "(II)I" } : Jvm.MethodName)) ∈ lw_all := lw_g (lw_at lw_m8 83 rfl) rfl
theorem q1830 : (Jvm.Cond.code ({ cls := "EnclosureRefereeModel", name := "best", desc := "(II)I" } : Jvm.MethodName) prog_14_method_57_code (8 : Nat) (Option.some Jvm.ClassFile.FieldType.int)) ∈ lw_all := lw_g (lw_at lw_m8 84 rfl) rfl
theorem q1832 : (Jvm.Cond.instanceMethod ({ cls := "EnclosureRefereeModel", name := "levels", desc := "()I" } : Jvm.MethodName)) ∈ lw_all := lw_g (lw_at lw_m8 86 rfl) rfl
theorem q1833 : (Jvm.Cond.selects "EnclosureRefereeModel" ({ cls := "EnclosureRefereeModel", name := "levels", desc := "()I" } : Jvm.MethodName) ({ cls := "EnclosureRefereeModel", name := "levels", desc := "()I" } : Jvm.MethodName)) ∈ lw_all := lw_g (lw_at lw_m8 87 rfl) rfl
theorem q1834 : (Jvm.Cond.code ({ cls := "EnclosureRefereeModel", name := "levels", desc := "()I" } : Jvm.MethodName) prog_14_method_58_code (1 : Nat) (Option.some Jvm.ClassFile.FieldType.int)) ∈ lw_all := lw_g (lw_at lw_m8 88 rfl) rfl
theorem q1836 : (Jvm.Cond.instanceMethod ({ cls := "EnclosureRefereeModel", name := "report", desc := "(II)I" } : Jvm.MethodName)) ∈ lw_all := lw_g (lw_at lw_m8 90 rfl) rfl
theorem q1837 : (Jvm.Cond.selects "EnclosureRefereeModel" ({ cls := "EnclosureRefereeModel", name := "report", desc := "(II)I" } : Jvm.MethodName) ({ cls := "EnclosureRefereeModel", name := "report", desc := "(II)I" } : Jvm.MethodName)) ∈ lw_all := lw_g (lw_at lw_m8 91 rfl) rfl
theorem q1838 : (Jvm.Cond.code ({ cls := "EnclosureRefereeModel", name := "report", desc := "(II)I" } : Jvm.MethodName) prog_14_method_59_code (3 : Nat) (Option.some Jvm.ClassFile.FieldType.int)) ∈ lw_all := lw_g (lw_at lw_m8 92 rfl) rfl
theorem q1840 : (Jvm.Cond.instanceMethod ({ cls := "EnclosureRefereeModel", name := "feed", desc := "(C)I" } : Jvm.MethodName)) ∈ lw_all := lw_g (lw_at lw_m8 94 rfl) rfl
theorem q1841 : (Jvm.Cond.selects "EnclosureRefereeModel" ({ cls := "EnclosureRefereeModel", name := "feed", desc := "(C)I" } : Jvm.MethodName) ({ cls := "EnclosureRefereeModel", name := "feed", desc := "(C)I" } : Jvm.MethodName)) ∈ lw_all := lw_g (lw_at lw_m8 95 rfl) rfl
theorem q1842 : (Jvm.Cond.code ({ cls := "EnclosureRefereeModel", name := "feed", desc := "(C)I" } : Jvm.MethodName) prog_14_method_60_code (2 : Nat) (Option.some Jvm.ClassFile.FieldType.int)) ∈ lw_all := lw_g (lw_at lw_m8 96 rfl) rfl
theorem q1844 : (Jvm.Cond.instanceMethod ({ cls := "EnclosureRefereeModel", name := "readRecord", desc := "()I" } : Jvm.MethodName)) ∈ lw_all := lw_g (lw_at lw_m8 98 rfl) rfl
theorem q1845 : (Jvm.Cond.selects "EnclosureRefereeModel" ({ cls := "EnclosureRefereeModel", name := "readRecord", desc := "()I" } : Jvm.MethodName) ({ cls := "EnclosureRefereeModel", name := "readRecord", desc := "()I" } : Jvm.MethodName)) ∈ lw_all := lw_g (lw_at lw_m8 99 rfl) rfl
theorem q1846 : (Jvm.Cond.code ({ cls := "EnclosureRefereeModel", name := "readRecord", desc := "()I" } : Jvm.MethodName) prog_14_method_64_code (5 : Nat) (Option.some Jvm.ClassFile.FieldType.int)) ∈ lw_all := lw_g (lw_at lw_m8 100 rfl) rfl
theorem q1847 : (Jvm.Cond.methodLink "EnclosureRefereeModel" (239 : Nat) ({ cls := "EnclosureRefereeModel", name := "isRound", desc := "()Z" } : Jvm.MethodName)) ∈ lw_all := lw_g (lw_at lw_m8 101 rfl) rfl
theorem q1848 : (Jvm.Cond.privateMethod ({ cls := "EnclosureRefereeModel", name := "isRound", desc := "()Z" } : Jvm.MethodName)) ∈ lw_tbl := lw_at lw_m8 102 rfl
theorem q1849 : (Jvm.Cond.instanceMethod ({ cls := "EnclosureRefereeModel", name := "isRound", desc := "()Z" } : Jvm.MethodName)) ∈ lw_all := lw_g (lw_at lw_m8 103 rfl) rfl
theorem q1850 : (Jvm.Cond.code ({ cls := "EnclosureRefereeModel", name := "isRound", desc := "()Z" } : Jvm.MethodName) prog_14_method_63_code (1 : Nat) (Option.some Jvm.ClassFile.FieldType.boolean)) ∈ lw_all := lw_g (lw_at lw_m8 104 rfl) rfl
theorem q1851 : (Jvm.Cond.methodLink "EnclosureRefereeModel" (230 : Nat) ({ cls := "EnclosureRefereeModel", name := "choice", desc := "()I" } : Jvm.MethodName)) ∈ lw_all := lw_g (lw_at lw_m8 105 rfl) rfl
theorem q1852 : (Jvm.Cond.privateMethod ({ cls := "EnclosureRefereeModel", name := "choice", desc := "()I" } : Jvm.MethodName)) ∈ lw_tbl := lw_at lw_m8 106 rfl
theorem q1853 : (Jvm.Cond.instanceMethod ({ cls := "EnclosureRefereeModel", name := "choice", desc := "()I" } : Jvm.MethodName)) ∈ lw_all := lw_g (lw_at lw_m8 107 rfl) rfl
theorem q1854 : (Jvm.Cond.code ({ cls := "EnclosureRefereeModel", name := "choice", desc := "()I" } : Jvm.MethodName) prog_14_method_62_code (3 : Nat) (Option.some Jvm.ClassFile.FieldType.int)) ∈ lw_all := lw_g (lw_at lw_m8 108 rfl) rfl
theorem q1855 : (Jvm.Cond.methodLink "EnclosureRefereeModel" (226 : Nat) ({ cls := "EnclosureRefereeModel", name := "isHere", desc := "(CC)Z" } : Jvm.MethodName)) ∈ lw_all := lw_g (lw_at lw_m8 109 rfl) rfl
theorem q1856 : (Jvm.Cond.privateMethod ({ cls := "EnclosureRefereeModel", name := "isHere", desc := "(CC)Z" } : Jvm.MethodName)) ∈ lw_tbl := lw_at lw_m8 110 rfl
theorem q1857 : (Jvm.Cond.instanceMethod ({ cls := "EnclosureRefereeModel", name := "isHere", desc := "(CC)Z" } : Jvm.MethodName)) ∈ lw_all := lw_g (lw_at lw_m8 111 rfl) rfl
theorem q1858 : (Jvm.Cond.code ({ cls := "EnclosureRefereeModel", name := "isHere", desc := "(CC)Z" } : Jvm.MethodName) prog_14_method_61_code (3 : Nat) (Option.some Jvm.ClassFile.FieldType.boolean)) ∈ lw_all := lw_g (lw_at lw_m8 112 rfl) rfl
theorem q1860 : (Jvm.Cond.instanceMethod ({ cls := "EnclosureRefereeModel", name := "written", desc := "(I)C" } : Jvm.MethodName)) ∈ lw_all := lw_g (lw_at lw_m8 114 rfl) rfl
theorem q1861 : (Jvm.Cond.selects "EnclosureRefereeModel" ({ cls := "EnclosureRefereeModel", name := "written", desc := "(I)C" } : Jvm.MethodName) ({ cls := "EnclosureRefereeModel", name := "written", desc := "(I)C" } : Jvm.MethodName)) ∈ lw_all := lw_g (lw_at lw_m8 115 rfl) rfl
theorem q1862 : (Jvm.Cond.code ({ cls := "EnclosureRefereeModel", name := "written", desc := "(I)C" } : Jvm.MethodName) prog_14_method_67_code (6 : Nat) (Option.some Jvm.ClassFile.FieldType.char)) ∈ lw_all := lw_g (lw_at lw_m8 116 rfl) rfl
theorem q1863 : (Jvm.Cond.methodLink "EnclosureRefereeModel" (242 : Nat) ({ cls := "EnclosureRefereeModel", name := "lengthOf", desc := "(I)I" } : Jvm.MethodName)) ∈ lw_all := lw_g (lw_at lw_m8 117 rfl) rfl
theorem q1864 : (Jvm.Cond.static ({ cls := "EnclosureRefereeModel", name := "lengthOf", desc := "(I)I" } : Jvm.MethodName)) ∈ lw_all := lw_g (lw_at lw_m8 118 rfl) rfl
theorem q1865 : (Jvm.Cond.code ({ cls := "EnclosureRefereeModel", name := "lengthOf", desc := "(I)I" } : Jvm.MethodName) prog_14_method_65_code (1 : Nat) (Option.some Jvm.ClassFile.FieldType.int)) ∈ lw_all := lw_g (lw_at lw_m8 119 rfl) rfl
theorem q1866 : (Jvm.Cond.methodLink "EnclosureRefereeModel" (245 : Nat) ({ cls := "EnclosureRefereeModel", name := "signOf", desc := "(II)C" } : Jvm.MethodName)) ∈ lw_all := lw_g (lw_at lw_m8 120 rfl) rfl
theorem q1867 : (Jvm.Cond.privateMethod ({ cls := "EnclosureRefereeModel", name := "signOf", desc := "(II)C" } : Jvm.MethodName)) ∈ lw_tbl := lw_at lw_m8 121 rfl
theorem q1868 : (Jvm.Cond.instanceMethod ({ cls := "EnclosureRefereeModel", name := "signOf", desc := "(II)C" } : Jvm.MethodName)) ∈ lw_all := lw_g (lw_at lw_m8 122 rfl) rfl
theorem q1869 : (Jvm.Cond.code ({ cls := "EnclosureRefereeModel", name := "signOf", desc := "(II)C" } : Jvm.MethodName) prog_14_method_66_code (3 : Nat) (Option.some Jvm.ClassFile.FieldType.char)) ∈ lw_all := lw_g (lw_at lw_m8 123 rfl) rfl
theorem q1871 : (Jvm.Cond.instanceMethod ({ cls := "EnclosureRefereeModel", name := "save", desc := "()I" } : Jvm.MethodName)) ∈ lw_all := lw_g (lw_at lw_m8 125 rfl) rfl
theorem q1872 : (Jvm.Cond.selects "EnclosureRefereeModel" ({ cls := "EnclosureRefereeModel", name := "save", desc := "()I" } : Jvm.MethodName) ({ cls := "EnclosureRefereeModel", name := "save", desc := "()I" } : Jvm.MethodName)) ∈ lw_all := lw_g (lw_at lw_m8 126 rfl) rfl
theorem q1873 : (Jvm.Cond.code ({ cls := "EnclosureRefereeModel", name := "save", desc := "()I" } : Jvm.MethodName) prog_14_method_68_code (1 : Nat) (Option.some Jvm.ClassFile.FieldType.int)) ∈ lw_all := lw_g (lw_at lw_m8 127 rfl) rfl
theorem q1875 : (Jvm.Cond.instanceMethod ({ cls := "EnclosureRefereeModel", name := "restore", desc := "()I" } : Jvm.MethodName)) ∈ lw_all := lw_g (lw_at lw_m8 129 rfl) rfl
theorem q1876 : (Jvm.Cond.selects "EnclosureRefereeModel" ({ cls := "EnclosureRefereeModel", name := "restore", desc := "()I" } : Jvm.MethodName) ({ cls := "EnclosureRefereeModel", name := "restore", desc := "()I" } : Jvm.MethodName)) ∈ lw_all := lw_g (lw_at lw_m8 130 rfl) rfl
theorem q1877 : (Jvm.Cond.code ({ cls := "EnclosureRefereeModel", name := "restore", desc := "()I" } : Jvm.MethodName) prog_14_method_69_code (1 : Nat) (Option.some Jvm.ClassFile.FieldType.int)) ∈ lw_all := lw_g (lw_at lw_m8 131 rfl) rfl
theorem q1901 : (Jvm.Cond.castable "EnclosureRefereeModel" "java/lang/Object") ∈ lw_tbl := lw_at lw_m8 155 rfl
theorem in_X6 : ∀ w ∈ wsX60, w ∈ lw_all := lw_in wsX60 [1545, 1547, 1549, 1551, 1553, 1555, 1557, 1559, 1561, 1563, 1565, 1567, 1569, 1571, 1573, 1575, 1577, 1579, 1581, 1583, 1585, 1587, 1589, 1591, 1593, 1595, 1597, 1599, 1601, 1603, 1605, 1607, 1609] (by decide +kernel) (by decide +kernel)
