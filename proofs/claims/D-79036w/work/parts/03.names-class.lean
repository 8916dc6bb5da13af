/-! EnclosureReferee -/
set_option maxRecDepth 100000
def RX1 : String := "EnclosureReferee"
def TX1 : u_T := fun k => match k with
  | 0 => ("EnclosureReferee", "game", "LEnclosureReferee$Game;", false)
  | 1 => ("EnclosureReferee", "saved", "LEnclosureReferee$Game;", false)
  | 2 => ("EnclosureReferee", "report", "LEnclosureReferee$RefusedException;", false)
  | 3 => ("EnclosureReferee", "input", "[C", true)
  | 4 => ("EnclosureReferee", "inputLength", "I", false)
  | 5 => ("EnclosureReferee", "record", "Ljava/lang/String;", false)
  | _ => ("EnclosureReferee", "recorded", "LEnclosureReferee$Round;", false)
def tyX1 : Nat → FieldType := fun k => match k with
  | 0 => .object "EnclosureReferee$Game"
  | 1 => .object "EnclosureReferee$Game"
  | 2 => .object "EnclosureReferee$RefusedException"
  | 3 => .array .char
  | 4 => .int
  | 5 => .object "java/lang/String"
  | _ => .object "EnclosureReferee$Round"
abbrev wsX10 : List Cond := u_ws RX1 TX1 7
theorem nmX1 : ∀ a, a < 7 → ∀ b, b < 7 → a ≠ b → (TX1 a).2.1 ≠ (TX1 b).2.1 := by decide +kernel
theorem tyX1_ok : ∀ k, k < 7 → parseFieldDescriptor (TX1 k).2.2.1 = some (tyX1 k) := by decide +kernel
abbrev cX1_init : ByteArray := prog_1_method_9_code
def yX1_init : MethodName := ⟨RX1, "<init>", "()V"⟩
def dkwX1_init_1 : List UInt8 := [181, 0, 40, 42, 18, 44, 181, 0, 46, 177]
abbrev dktX1_init_1 : List UInt8 := dkwX1_init_1 ++ []
def dkwX1_init_0 : List UInt8 := [42, 183, 0, 28, 42, 187, 0, 31, 89, 8, 8, 3, 183, 0, 33, 181, 0, 36, 42, 16, 80, 188, 5]
abbrev dktX1_init_0 : List UInt8 := dkwX1_init_0 ++ dktX1_init_1
theorem dksX1_init_0 : cX1_init.data.toList.drop 0 = dktX1_init_0 := by decide +kernel
theorem dksX1_init_1 : cX1_init.data.toList.drop 23 = dktX1_init_1 := dk_seg dksX1_init_0 23 rfl rfl
theorem dX1_init_0 : decode cX1_init 0 = .ok (.aload_n 0, 1) := dk_42 (dk_at dksX1_init_0 0 rfl rfl)
theorem dX1_init_1 : decode cX1_init 1 = .ok (.invokespecial 28, 3) := dk_183 0 28 (dk_at dksX1_init_0 1 rfl rfl)
theorem dX1_init_4 : decode cX1_init 4 = .ok (.aload_n 0, 1) := dk_42 (dk_at dksX1_init_0 4 rfl rfl)
theorem dX1_init_5 : decode cX1_init 5 = .ok (.new 31, 3) := dk_187 0 31 (dk_at dksX1_init_0 5 rfl rfl)
theorem dX1_init_8 : decode cX1_init 8 = .ok (.dup, 1) := dk_89 (dk_at dksX1_init_0 8 rfl rfl)
theorem dX1_init_9 : decode cX1_init 9 = .ok (.iconst 5, 1) := dk_8 (dk_at dksX1_init_0 9 rfl rfl)
theorem dX1_init_10 : decode cX1_init 10 = .ok (.iconst 5, 1) := dk_8 (dk_at dksX1_init_0 10 rfl rfl)
theorem dX1_init_11 : decode cX1_init 11 = .ok (.iconst 0, 1) := dk_3 (dk_at dksX1_init_0 11 rfl rfl)
theorem dX1_init_12 : decode cX1_init 12 = .ok (.invokespecial 33, 3) := dk_183 0 33 (dk_at dksX1_init_0 12 rfl rfl)
theorem dX1_init_15 : decode cX1_init 15 = .ok (.putfield 36, 3) := dk_181 0 36 (dk_at dksX1_init_0 15 rfl rfl)
theorem dX1_init_18 : decode cX1_init 18 = .ok (.aload_n 0, 1) := dk_42 (dk_at dksX1_init_0 18 rfl rfl)
theorem dX1_init_19 : decode cX1_init 19 = .ok (.bipush 80, 2) := dk_16 80 (dk_at dksX1_init_0 19 rfl rfl)
theorem dX1_init_21 : decode cX1_init 21 = .ok (.newarray .char, 2) := dk_188_5 (dk_at dksX1_init_0 21 rfl rfl)
theorem dX1_init_23 : decode cX1_init 23 = .ok (.putfield 40, 3) := dk_181 0 40 (dk_at dksX1_init_1 0 rfl rfl)
theorem dX1_init_26 : decode cX1_init 26 = .ok (.aload_n 0, 1) := dk_42 (dk_at dksX1_init_1 3 rfl rfl)
theorem dX1_init_27 : decode cX1_init 27 = .ok (.ldc 44, 2) := dk_18 44 (dk_at dksX1_init_1 4 rfl rfl)
theorem dX1_init_29 : decode cX1_init 29 = .ok (.putfield 46, 3) := dk_181 0 46 (dk_at dksX1_init_1 6 rfl rfl)
theorem dX1_init_32 : decode cX1_init 32 = .ok (.return_, 1) := dk_177 (dk_at dksX1_init_1 9 rfl rfl)
abbrev cX1_bit : ByteArray := prog_1_method_6_code
def yX1_bit : MethodName := ⟨RX1, "bit", "(I)J"⟩
def dkwX1_bit_0 : List UInt8 := [10, 26, 121, 173]
abbrev dktX1_bit_0 : List UInt8 := dkwX1_bit_0 ++ []
theorem dksX1_bit_0 : cX1_bit.data.toList.drop 0 = dktX1_bit_0 := by decide +kernel
theorem dX1_bit_0 : decode cX1_bit 0 = .ok (.lconst 1, 1) := dk_10 (dk_at dksX1_bit_0 0 rfl rfl)
theorem dX1_bit_1 : decode cX1_bit 1 = .ok (.iload_n 0, 1) := dk_26 (dk_at dksX1_bit_0 1 rfl rfl)
theorem dX1_bit_2 : decode cX1_bit 2 = .ok (.lshl, 1) := dk_121 (dk_at dksX1_bit_0 2 rfl rfl)
theorem dX1_bit_3 : decode cX1_bit 3 = .ok (.lreturn, 1) := dk_173 (dk_at dksX1_bit_0 3 rfl rfl)
abbrev cX1_isOver : ByteArray := prog_1_method_19_code
def yX1_isOver : MethodName := ⟨RX1, "isOver", "()Z"⟩
def dkwX1_isOver_0 : List UInt8 := [42, 180, 0, 36, 182, 0, 103, 172]
abbrev dktX1_isOver_0 : List UInt8 := dkwX1_isOver_0 ++ []
theorem dksX1_isOver_0 : cX1_isOver.data.toList.drop 0 = dktX1_isOver_0 := by decide +kernel
theorem dX1_isOver_0 : decode cX1_isOver 0 = .ok (.aload_n 0, 1) := dk_42 (dk_at dksX1_isOver_0 0 rfl rfl)
theorem dX1_isOver_1 : decode cX1_isOver 1 = .ok (.getfield 36, 3) := dk_180 0 36 (dk_at dksX1_isOver_0 1 rfl rfl)
theorem dX1_isOver_4 : decode cX1_isOver 4 = .ok (.invokevirtual 103, 3) := dk_182 0 103 (dk_at dksX1_isOver_0 4 rfl rfl)
theorem dX1_isOver_7 : decode cX1_isOver 7 = .ok (.ireturn, 1) := dk_172 (dk_at dksX1_isOver_0 7 rfl rfl)
abbrev cX1_levels : ByteArray := prog_1_method_38_code
def yX1_levels : MethodName := ⟨RX1, "levels", "()I"⟩
def dkwX1_levels_0 : List UInt8 := [42, 180, 0, 116, 199, 0, 7, 3, 167, 0, 10, 42, 180, 0, 116, 182, 0, 246, 172]
abbrev dktX1_levels_0 : List UInt8 := dkwX1_levels_0 ++ []
theorem dksX1_levels_0 : cX1_levels.data.toList.drop 0 = dktX1_levels_0 := by decide +kernel
theorem dX1_levels_0 : decode cX1_levels 0 = .ok (.aload_n 0, 1) := dk_42 (dk_at dksX1_levels_0 0 rfl rfl)
theorem dX1_levels_1 : decode cX1_levels 1 = .ok (.getfield 116, 3) := dk_180 0 116 (dk_at dksX1_levels_0 1 rfl rfl)
theorem dX1_levels_4 : decode cX1_levels 4 = .ok (.ifnonnull 7, 3) := dk_199 0 7 (dk_at dksX1_levels_0 4 rfl rfl)
theorem dX1_levels_7 : decode cX1_levels 7 = .ok (.iconst 0, 1) := dk_3 (dk_at dksX1_levels_0 7 rfl rfl)
theorem dX1_levels_8 : decode cX1_levels 8 = .ok (.goto 10, 3) := dk_167 0 10 (dk_at dksX1_levels_0 8 rfl rfl)
theorem dX1_levels_11 : decode cX1_levels 11 = .ok (.aload_n 0, 1) := dk_42 (dk_at dksX1_levels_0 11 rfl rfl)
theorem dX1_levels_12 : decode cX1_levels 12 = .ok (.getfield 116, 3) := dk_180 0 116 (dk_at dksX1_levels_0 12 rfl rfl)
theorem dX1_levels_15 : decode cX1_levels 15 = .ok (.invokevirtual 246, 3) := dk_182 0 246 (dk_at dksX1_levels_0 15 rfl rfl)
theorem dX1_levels_18 : decode cX1_levels 18 = .ok (.ireturn, 1) := dk_172 (dk_at dksX1_levels_0 18 rfl rfl)
abbrev cX1_save : ByteArray := prog_1_method_46_code
def yX1_save : MethodName := ⟨RX1, "save", "()I"⟩
def dkwX1_save_0 : List UInt8 := [42, 187, 0, 31, 89, 42, 180, 0, 36, 183, 1, 71, 181, 1, 74, 42, 180, 0, 36, 182, 0, 123, 172]
abbrev dktX1_save_0 : List UInt8 := dkwX1_save_0 ++ []
theorem dksX1_save_0 : cX1_save.data.toList.drop 0 = dktX1_save_0 := by decide +kernel
theorem dX1_save_0 : decode cX1_save 0 = .ok (.aload_n 0, 1) := dk_42 (dk_at dksX1_save_0 0 rfl rfl)
theorem dX1_save_1 : decode cX1_save 1 = .ok (.new 31, 3) := dk_187 0 31 (dk_at dksX1_save_0 1 rfl rfl)
theorem dX1_save_4 : decode cX1_save 4 = .ok (.dup, 1) := dk_89 (dk_at dksX1_save_0 4 rfl rfl)
theorem dX1_save_5 : decode cX1_save 5 = .ok (.aload_n 0, 1) := dk_42 (dk_at dksX1_save_0 5 rfl rfl)
theorem dX1_save_6 : decode cX1_save 6 = .ok (.getfield 36, 3) := dk_180 0 36 (dk_at dksX1_save_0 6 rfl rfl)
theorem dX1_save_9 : decode cX1_save 9 = .ok (.invokespecial 327, 3) := dk_183 1 71 (dk_at dksX1_save_0 9 rfl rfl)
theorem dX1_save_12 : decode cX1_save 12 = .ok (.putfield 330, 3) := dk_181 1 74 (dk_at dksX1_save_0 12 rfl rfl)
theorem dX1_save_15 : decode cX1_save 15 = .ok (.aload_n 0, 1) := dk_42 (dk_at dksX1_save_0 15 rfl rfl)
theorem dX1_save_16 : decode cX1_save 16 = .ok (.getfield 36, 3) := dk_180 0 36 (dk_at dksX1_save_0 16 rfl rfl)
theorem dX1_save_19 : decode cX1_save 19 = .ok (.invokevirtual 123, 3) := dk_182 0 123 (dk_at dksX1_save_0 19 rfl rfl)
theorem dX1_save_22 : decode cX1_save 22 = .ok (.ireturn, 1) := dk_172 (dk_at dksX1_save_0 22 rfl rfl)
abbrev cX1_start : ByteArray := prog_1_method_14_code
def yX1_start : MethodName := ⟨RX1, "start", "(III)I"⟩
def dkwX1_start_3 : List UInt8 := [180, 0, 36, 180, 0, 50, 182, 0, 84, 184, 0, 90, 172]
abbrev dktX1_start_3 : List UInt8 := dkwX1_start_3 ++ []
def dkwX1_start_2 : List UInt8 := [180, 0, 36, 180, 0, 76, 181, 0, 76, 42, 25, 4, 181, 0, 36, 42, 180, 0, 36, 182, 0, 80, 42]
abbrev dktX1_start_2 : List UInt8 := dkwX1_start_2 ++ dktX1_start_3
def dkwX1_start_1 : List UInt8 := [167, 0, 4, 3, 184, 0, 72, 187, 0, 31, 89, 27, 28, 29, 183, 0, 33, 58, 4, 25, 4, 42]
abbrev dktX1_start_1 : List UInt8 := dkwX1_start_1 ++ dktX1_start_2
def dkwX1_start_0 : List UInt8 := [27, 184, 0, 68, 153, 0, 23, 28, 184, 0, 68, 153, 0, 16, 29, 3, 7, 184, 0, 10, 153, 0, 7, 4]
abbrev dktX1_start_0 : List UInt8 := dkwX1_start_0 ++ dktX1_start_1
theorem dksX1_start_0 : cX1_start.data.toList.drop 0 = dktX1_start_0 := by decide +kernel
theorem dksX1_start_1 : cX1_start.data.toList.drop 24 = dktX1_start_1 := dk_seg dksX1_start_0 24 rfl rfl
theorem dksX1_start_2 : cX1_start.data.toList.drop 46 = dktX1_start_2 := dk_seg dksX1_start_1 22 rfl rfl
theorem dksX1_start_3 : cX1_start.data.toList.drop 69 = dktX1_start_3 := dk_seg dksX1_start_2 23 rfl rfl
theorem dX1_start_0 : decode cX1_start 0 = .ok (.iload_n 1, 1) := dk_27 (dk_at dksX1_start_0 0 rfl rfl)
theorem dX1_start_1 : decode cX1_start 1 = .ok (.invokestatic 68, 3) := dk_184 0 68 (dk_at dksX1_start_0 1 rfl rfl)
theorem dX1_start_4 : decode cX1_start 4 = .ok (.ifCond .eq 23, 3) := dk_153 0 23 (dk_at dksX1_start_0 4 rfl rfl)
theorem dX1_start_7 : decode cX1_start 7 = .ok (.iload_n 2, 1) := dk_28 (dk_at dksX1_start_0 7 rfl rfl)
theorem dX1_start_8 : decode cX1_start 8 = .ok (.invokestatic 68, 3) := dk_184 0 68 (dk_at dksX1_start_0 8 rfl rfl)
theorem dX1_start_11 : decode cX1_start 11 = .ok (.ifCond .eq 16, 3) := dk_153 0 16 (dk_at dksX1_start_0 11 rfl rfl)
theorem dX1_start_14 : decode cX1_start 14 = .ok (.iload_n 3, 1) := dk_29 (dk_at dksX1_start_0 14 rfl rfl)
theorem dX1_start_15 : decode cX1_start 15 = .ok (.iconst 0, 1) := dk_3 (dk_at dksX1_start_0 15 rfl rfl)
theorem dX1_start_16 : decode cX1_start 16 = .ok (.iconst 4, 1) := dk_7 (dk_at dksX1_start_0 16 rfl rfl)
theorem dX1_start_17 : decode cX1_start 17 = .ok (.invokestatic 10, 3) := dk_184 0 10 (dk_at dksX1_start_0 17 rfl rfl)
theorem dX1_start_20 : decode cX1_start 20 = .ok (.ifCond .eq 7, 3) := dk_153 0 7 (dk_at dksX1_start_0 20 rfl rfl)
theorem dX1_start_23 : decode cX1_start 23 = .ok (.iconst 1, 1) := dk_4 (dk_at dksX1_start_0 23 rfl rfl)
theorem dX1_start_24 : decode cX1_start 24 = .ok (.goto 4, 3) := dk_167 0 4 (dk_at dksX1_start_1 0 rfl rfl)
theorem dX1_start_27 : decode cX1_start 27 = .ok (.iconst 0, 1) := dk_3 (dk_at dksX1_start_1 3 rfl rfl)
theorem dX1_start_28 : decode cX1_start 28 = .ok (.invokestatic 72, 3) := dk_184 0 72 (dk_at dksX1_start_1 4 rfl rfl)
theorem dX1_start_31 : decode cX1_start 31 = .ok (.new 31, 3) := dk_187 0 31 (dk_at dksX1_start_1 7 rfl rfl)
theorem dX1_start_34 : decode cX1_start 34 = .ok (.dup, 1) := dk_89 (dk_at dksX1_start_1 10 rfl rfl)
theorem dX1_start_35 : decode cX1_start 35 = .ok (.iload_n 1, 1) := dk_27 (dk_at dksX1_start_1 11 rfl rfl)
theorem dX1_start_36 : decode cX1_start 36 = .ok (.iload_n 2, 1) := dk_28 (dk_at dksX1_start_1 12 rfl rfl)
theorem dX1_start_37 : decode cX1_start 37 = .ok (.iload_n 3, 1) := dk_29 (dk_at dksX1_start_1 13 rfl rfl)
theorem dX1_start_38 : decode cX1_start 38 = .ok (.invokespecial 33, 3) := dk_183 0 33 (dk_at dksX1_start_1 14 rfl rfl)
theorem dX1_start_41 : decode cX1_start 41 = .ok (.astore 4, 2) := dk_58 4 (dk_at dksX1_start_1 17 rfl rfl)
theorem dX1_start_43 : decode cX1_start 43 = .ok (.aload 4, 2) := dk_25 4 (dk_at dksX1_start_1 19 rfl rfl)
theorem dX1_start_45 : decode cX1_start 45 = .ok (.aload_n 0, 1) := dk_42 (dk_at dksX1_start_1 21 rfl rfl)
theorem dX1_start_46 : decode cX1_start 46 = .ok (.getfield 36, 3) := dk_180 0 36 (dk_at dksX1_start_2 0 rfl rfl)
theorem dX1_start_49 : decode cX1_start 49 = .ok (.getfield 76, 3) := dk_180 0 76 (dk_at dksX1_start_2 3 rfl rfl)
theorem dX1_start_52 : decode cX1_start 52 = .ok (.putfield 76, 3) := dk_181 0 76 (dk_at dksX1_start_2 6 rfl rfl)
theorem dX1_start_55 : decode cX1_start 55 = .ok (.aload_n 0, 1) := dk_42 (dk_at dksX1_start_2 9 rfl rfl)
theorem dX1_start_56 : decode cX1_start 56 = .ok (.aload 4, 2) := dk_25 4 (dk_at dksX1_start_2 10 rfl rfl)
theorem dX1_start_58 : decode cX1_start 58 = .ok (.putfield 36, 3) := dk_181 0 36 (dk_at dksX1_start_2 12 rfl rfl)
theorem dX1_start_61 : decode cX1_start 61 = .ok (.aload_n 0, 1) := dk_42 (dk_at dksX1_start_2 15 rfl rfl)
theorem dX1_start_62 : decode cX1_start 62 = .ok (.getfield 36, 3) := dk_180 0 36 (dk_at dksX1_start_2 16 rfl rfl)
theorem dX1_start_65 : decode cX1_start 65 = .ok (.invokevirtual 80, 3) := dk_182 0 80 (dk_at dksX1_start_2 19 rfl rfl)
theorem dX1_start_68 : decode cX1_start 68 = .ok (.aload_n 0, 1) := dk_42 (dk_at dksX1_start_2 22 rfl rfl)
theorem dX1_start_69 : decode cX1_start 69 = .ok (.getfield 36, 3) := dk_180 0 36 (dk_at dksX1_start_3 0 rfl rfl)
theorem dX1_start_72 : decode cX1_start 72 = .ok (.getfield 50, 3) := dk_180 0 50 (dk_at dksX1_start_3 3 rfl rfl)
theorem dX1_start_75 : decode cX1_start 75 = .ok (.invokevirtual 84, 3) := dk_182 0 84 (dk_at dksX1_start_3 6 rfl rfl)
theorem dX1_start_78 : decode cX1_start 78 = .ok (.invokestatic 90, 3) := dk_184 0 90 (dk_at dksX1_start_3 9 rfl rfl)
theorem dX1_start_81 : decode cX1_start 81 = .ok (.ireturn, 1) := dk_172 (dk_at dksX1_start_3 12 rfl rfl)
abbrev cX1_isSide : ByteArray := prog_1_method_13_code
def yX1_isSide : MethodName := ⟨RX1, "isSide", "(I)Z"⟩
def dkwX1_isSide_0 : List UInt8 := [26, 7, 16, 7, 184, 0, 10, 172]
abbrev dktX1_isSide_0 : List UInt8 := dkwX1_isSide_0 ++ []
theorem dksX1_isSide_0 : cX1_isSide.data.toList.drop 0 = dktX1_isSide_0 := by decide +kernel
theorem dX1_isSide_0 : decode cX1_isSide 0 = .ok (.iload_n 0, 1) := dk_26 (dk_at dksX1_isSide_0 0 rfl rfl)
theorem dX1_isSide_1 : decode cX1_isSide 1 = .ok (.iconst 4, 1) := dk_7 (dk_at dksX1_isSide_0 1 rfl rfl)
theorem dX1_isSide_2 : decode cX1_isSide 2 = .ok (.bipush 7, 2) := dk_16 7 (dk_at dksX1_isSide_0 2 rfl rfl)
theorem dX1_isSide_4 : decode cX1_isSide 4 = .ok (.invokestatic 10, 3) := dk_184 0 10 (dk_at dksX1_isSide_0 4 rfl rfl)
theorem dX1_isSide_7 : decode cX1_isSide 7 = .ok (.ireturn, 1) := dk_172 (dk_at dksX1_isSide_0 7 rfl rfl)
abbrev cX1_inRange : ByteArray := prog_1_method_1_code
def yX1_inRange : MethodName := ⟨RX1, "inRange", "(III)Z"⟩
def dkwX1_inRange_0 : List UInt8 := [26, 27, 161, 0, 12, 26, 28, 163, 0, 7, 4, 167, 0, 4, 3, 172]
abbrev dktX1_inRange_0 : List UInt8 := dkwX1_inRange_0 ++ []
theorem dksX1_inRange_0 : cX1_inRange.data.toList.drop 0 = dktX1_inRange_0 := by decide +kernel
theorem dX1_inRange_0 : decode cX1_inRange 0 = .ok (.iload_n 0, 1) := dk_26 (dk_at dksX1_inRange_0 0 rfl rfl)
theorem dX1_inRange_1 : decode cX1_inRange 1 = .ok (.iload_n 1, 1) := dk_27 (dk_at dksX1_inRange_0 1 rfl rfl)
theorem dX1_inRange_2 : decode cX1_inRange 2 = .ok (.if_icmp .lt 12, 3) := dk_161 0 12 (dk_at dksX1_inRange_0 2 rfl rfl)
theorem dX1_inRange_5 : decode cX1_inRange 5 = .ok (.iload_n 0, 1) := dk_26 (dk_at dksX1_inRange_0 5 rfl rfl)
theorem dX1_inRange_6 : decode cX1_inRange 6 = .ok (.iload_n 2, 1) := dk_28 (dk_at dksX1_inRange_0 6 rfl rfl)
theorem dX1_inRange_7 : decode cX1_inRange 7 = .ok (.if_icmp .gt 7, 3) := dk_163 0 7 (dk_at dksX1_inRange_0 7 rfl rfl)
theorem dX1_inRange_10 : decode cX1_inRange 10 = .ok (.iconst 1, 1) := dk_4 (dk_at dksX1_inRange_0 10 rfl rfl)
theorem dX1_inRange_11 : decode cX1_inRange 11 = .ok (.goto 4, 3) := dk_167 0 4 (dk_at dksX1_inRange_0 11 rfl rfl)
theorem dX1_inRange_14 : decode cX1_inRange 14 = .ok (.iconst 0, 1) := dk_3 (dk_at dksX1_inRange_0 14 rfl rfl)
theorem dX1_inRange_15 : decode cX1_inRange 15 = .ok (.ireturn, 1) := dk_172 (dk_at dksX1_inRange_0 15 rfl rfl)
abbrev cX1_checkArgument : ByteArray := prog_1_method_2_code
def yX1_checkArgument : MethodName := ⟨RX1, "checkArgument", "(Z)V"⟩
def dkwX1_checkArgument_0 : List UInt8 := [26, 154, 0, 11, 187, 0, 1, 89, 183, 0, 3, 191, 177]
abbrev dktX1_checkArgument_0 : List UInt8 := dkwX1_checkArgument_0 ++ []
theorem dksX1_checkArgument_0 : cX1_checkArgument.data.toList.drop 0 = dktX1_checkArgument_0 := by decide +kernel
theorem dX1_checkArgument_0 : decode cX1_checkArgument 0 = .ok (.iload_n 0, 1) := dk_26 (dk_at dksX1_checkArgument_0 0 rfl rfl)
theorem dX1_checkArgument_1 : decode cX1_checkArgument 1 = .ok (.ifCond .ne 11, 3) := dk_154 0 11 (dk_at dksX1_checkArgument_0 1 rfl rfl)
theorem dX1_checkArgument_4 : decode cX1_checkArgument 4 = .ok (.new 1, 3) := dk_187 0 1 (dk_at dksX1_checkArgument_0 4 rfl rfl)
theorem dX1_checkArgument_7 : decode cX1_checkArgument 7 = .ok (.dup, 1) := dk_89 (dk_at dksX1_checkArgument_0 7 rfl rfl)
theorem dX1_checkArgument_8 : decode cX1_checkArgument 8 = .ok (.invokespecial 3, 3) := dk_183 0 3 (dk_at dksX1_checkArgument_0 8 rfl rfl)
theorem dX1_checkArgument_11 : decode cX1_checkArgument 11 = .ok (.athrow, 1) := dk_191 (dk_at dksX1_checkArgument_0 11 rfl rfl)
theorem dX1_checkArgument_12 : decode cX1_checkArgument 12 = .ok (.return_, 1) := dk_177 (dk_at dksX1_checkArgument_0 12 rfl rfl)
abbrev cX1_size : ByteArray := prog_1_method_8_code
def yX1_size : MethodName := ⟨RX1, "size", "(J)I"⟩
theorem dX1_size_0 : decode cX1_size 0 = .ok (.lload_n 0, 1) := by decide +kernel
theorem dX1_size_1 : decode cX1_size 1 = .ok (.invokestatic 22, 3) := by decide +kernel
theorem dX1_size_4 : decode cX1_size 4 = .ok (.ireturn, 1) := by decide +kernel
abbrev cX1_setRule : ByteArray := prog_1_method_15_code
def yX1_setRule : MethodName := ⟨RX1, "setRule", "(I)I"⟩
def dkwX1_setRule_1 : List UInt8 := [181, 0, 76, 28, 172]
abbrev dktX1_setRule_1 : List UInt8 := dkwX1_setRule_1 ++ []
def dkwX1_setRule_0 : List UInt8 := [27, 3, 5, 184, 0, 10, 184, 0, 72, 42, 180, 0, 36, 180, 0, 76, 61, 42, 180, 0, 36, 27]
abbrev dktX1_setRule_0 : List UInt8 := dkwX1_setRule_0 ++ dktX1_setRule_1
theorem dksX1_setRule_0 : cX1_setRule.data.toList.drop 0 = dktX1_setRule_0 := by decide +kernel
theorem dksX1_setRule_1 : cX1_setRule.data.toList.drop 22 = dktX1_setRule_1 := dk_seg dksX1_setRule_0 22 rfl rfl
theorem dX1_setRule_0 : decode cX1_setRule 0 = .ok (.iload_n 1, 1) := dk_27 (dk_at dksX1_setRule_0 0 rfl rfl)
theorem dX1_setRule_1 : decode cX1_setRule 1 = .ok (.iconst 0, 1) := dk_3 (dk_at dksX1_setRule_0 1 rfl rfl)
theorem dX1_setRule_2 : decode cX1_setRule 2 = .ok (.iconst 2, 1) := dk_5 (dk_at dksX1_setRule_0 2 rfl rfl)
theorem dX1_setRule_3 : decode cX1_setRule 3 = .ok (.invokestatic 10, 3) := dk_184 0 10 (dk_at dksX1_setRule_0 3 rfl rfl)
theorem dX1_setRule_6 : decode cX1_setRule 6 = .ok (.invokestatic 72, 3) := dk_184 0 72 (dk_at dksX1_setRule_0 6 rfl rfl)
theorem dX1_setRule_9 : decode cX1_setRule 9 = .ok (.aload_n 0, 1) := dk_42 (dk_at dksX1_setRule_0 9 rfl rfl)
theorem dX1_setRule_10 : decode cX1_setRule 10 = .ok (.getfield 36, 3) := dk_180 0 36 (dk_at dksX1_setRule_0 10 rfl rfl)
theorem dX1_setRule_13 : decode cX1_setRule 13 = .ok (.getfield 76, 3) := dk_180 0 76 (dk_at dksX1_setRule_0 13 rfl rfl)
theorem dX1_setRule_16 : decode cX1_setRule 16 = .ok (.istore_n 2, 1) := dk_61 (dk_at dksX1_setRule_0 16 rfl rfl)
theorem dX1_setRule_17 : decode cX1_setRule 17 = .ok (.aload_n 0, 1) := dk_42 (dk_at dksX1_setRule_0 17 rfl rfl)
theorem dX1_setRule_18 : decode cX1_setRule 18 = .ok (.getfield 36, 3) := dk_180 0 36 (dk_at dksX1_setRule_0 18 rfl rfl)
theorem dX1_setRule_21 : decode cX1_setRule 21 = .ok (.iload_n 1, 1) := dk_27 (dk_at dksX1_setRule_0 21 rfl rfl)
theorem dX1_setRule_22 : decode cX1_setRule 22 = .ok (.putfield 76, 3) := dk_181 0 76 (dk_at dksX1_setRule_1 0 rfl rfl)
theorem dX1_setRule_25 : decode cX1_setRule 25 = .ok (.iload_n 2, 1) := dk_28 (dk_at dksX1_setRule_1 3 rfl rfl)
theorem dX1_setRule_26 : decode cX1_setRule 26 = .ok (.ireturn, 1) := dk_172 (dk_at dksX1_setRule_1 4 rfl rfl)
abbrev cX1_setBonus : ByteArray := prog_1_method_16_code
def yX1_setBonus : MethodName := ⟨RX1, "setBonus", "(II)I"⟩
def dkwX1_setBonus_1 : List UInt8 := [42, 180, 0, 36, 180, 0, 96, 27, 28, 79, 29, 172]
abbrev dktX1_setBonus_1 : List UInt8 := dkwX1_setBonus_1 ++ []
def dkwX1_setBonus_0 : List UInt8 := [27, 184, 0, 93, 28, 3, 16, 20, 184, 0, 10, 184, 0, 72, 42, 180, 0, 36, 180, 0, 96, 27, 46, 62]
abbrev dktX1_setBonus_0 : List UInt8 := dkwX1_setBonus_0 ++ dktX1_setBonus_1
theorem dksX1_setBonus_0 : cX1_setBonus.data.toList.drop 0 = dktX1_setBonus_0 := by decide +kernel
theorem dksX1_setBonus_1 : cX1_setBonus.data.toList.drop 24 = dktX1_setBonus_1 := dk_seg dksX1_setBonus_0 24 rfl rfl
theorem dX1_setBonus_0 : decode cX1_setBonus 0 = .ok (.iload_n 1, 1) := dk_27 (dk_at dksX1_setBonus_0 0 rfl rfl)
theorem dX1_setBonus_1 : decode cX1_setBonus 1 = .ok (.invokestatic 93, 3) := dk_184 0 93 (dk_at dksX1_setBonus_0 1 rfl rfl)
theorem dX1_setBonus_4 : decode cX1_setBonus 4 = .ok (.iload_n 2, 1) := dk_28 (dk_at dksX1_setBonus_0 4 rfl rfl)
theorem dX1_setBonus_5 : decode cX1_setBonus 5 = .ok (.iconst 0, 1) := dk_3 (dk_at dksX1_setBonus_0 5 rfl rfl)
theorem dX1_setBonus_6 : decode cX1_setBonus 6 = .ok (.bipush 20, 2) := dk_16 20 (dk_at dksX1_setBonus_0 6 rfl rfl)
theorem dX1_setBonus_8 : decode cX1_setBonus 8 = .ok (.invokestatic 10, 3) := dk_184 0 10 (dk_at dksX1_setBonus_0 8 rfl rfl)
theorem dX1_setBonus_11 : decode cX1_setBonus 11 = .ok (.invokestatic 72, 3) := dk_184 0 72 (dk_at dksX1_setBonus_0 11 rfl rfl)
theorem dX1_setBonus_14 : decode cX1_setBonus 14 = .ok (.aload_n 0, 1) := dk_42 (dk_at dksX1_setBonus_0 14 rfl rfl)
theorem dX1_setBonus_15 : decode cX1_setBonus 15 = .ok (.getfield 36, 3) := dk_180 0 36 (dk_at dksX1_setBonus_0 15 rfl rfl)
theorem dX1_setBonus_18 : decode cX1_setBonus 18 = .ok (.getfield 96, 3) := dk_180 0 96 (dk_at dksX1_setBonus_0 18 rfl rfl)
theorem dX1_setBonus_21 : decode cX1_setBonus 21 = .ok (.iload_n 1, 1) := dk_27 (dk_at dksX1_setBonus_0 21 rfl rfl)
theorem dX1_setBonus_22 : decode cX1_setBonus 22 = .ok (.iaload, 1) := dk_46 (dk_at dksX1_setBonus_0 22 rfl rfl)
theorem dX1_setBonus_23 : decode cX1_setBonus 23 = .ok (.istore_n 3, 1) := dk_62 (dk_at dksX1_setBonus_0 23 rfl rfl)
theorem dX1_setBonus_24 : decode cX1_setBonus 24 = .ok (.aload_n 0, 1) := dk_42 (dk_at dksX1_setBonus_1 0 rfl rfl)
theorem dX1_setBonus_25 : decode cX1_setBonus 25 = .ok (.getfield 36, 3) := dk_180 0 36 (dk_at dksX1_setBonus_1 1 rfl rfl)
theorem dX1_setBonus_28 : decode cX1_setBonus 28 = .ok (.getfield 96, 3) := dk_180 0 96 (dk_at dksX1_setBonus_1 4 rfl rfl)
theorem dX1_setBonus_31 : decode cX1_setBonus 31 = .ok (.iload_n 1, 1) := dk_27 (dk_at dksX1_setBonus_1 7 rfl rfl)
theorem dX1_setBonus_32 : decode cX1_setBonus 32 = .ok (.iload_n 2, 1) := dk_28 (dk_at dksX1_setBonus_1 8 rfl rfl)
theorem dX1_setBonus_33 : decode cX1_setBonus 33 = .ok (.iastore, 1) := dk_79 (dk_at dksX1_setBonus_1 9 rfl rfl)
theorem dX1_setBonus_34 : decode cX1_setBonus 34 = .ok (.iload_n 3, 1) := dk_29 (dk_at dksX1_setBonus_1 10 rfl rfl)
theorem dX1_setBonus_35 : decode cX1_setBonus 35 = .ok (.ireturn, 1) := dk_172 (dk_at dksX1_setBonus_1 11 rfl rfl)
abbrev cX1_checkPlayer : ByteArray := prog_1_method_12_code
def yX1_checkPlayer : MethodName := ⟨RX1, "checkPlayer", "(I)V"⟩
def dkwX1_checkPlayer_0 : List UInt8 := [26, 5, 184, 0, 60, 177]
abbrev dktX1_checkPlayer_0 : List UInt8 := dkwX1_checkPlayer_0 ++ []
theorem dksX1_checkPlayer_0 : cX1_checkPlayer.data.toList.drop 0 = dktX1_checkPlayer_0 := by decide +kernel
theorem dX1_checkPlayer_0 : decode cX1_checkPlayer 0 = .ok (.iload_n 0, 1) := dk_26 (dk_at dksX1_checkPlayer_0 0 rfl rfl)
theorem dX1_checkPlayer_1 : decode cX1_checkPlayer 1 = .ok (.iconst 2, 1) := dk_5 (dk_at dksX1_checkPlayer_0 1 rfl rfl)
theorem dX1_checkPlayer_2 : decode cX1_checkPlayer 2 = .ok (.invokestatic 60, 3) := dk_184 0 60 (dk_at dksX1_checkPlayer_0 2 rfl rfl)
theorem dX1_checkPlayer_5 : decode cX1_checkPlayer 5 = .ok (.return_, 1) := dk_177 (dk_at dksX1_checkPlayer_0 5 rfl rfl)
abbrev cX1_checkIndex : ByteArray := prog_1_method_4_code
def yX1_checkIndex : MethodName := ⟨RX1, "checkIndex", "(II)V"⟩
def dkwX1_checkIndex_0 : List UInt8 := [26, 3, 27, 4, 100, 184, 0, 10, 154, 0, 11, 187, 0, 16, 89, 183, 0, 18, 191, 177]
abbrev dktX1_checkIndex_0 : List UInt8 := dkwX1_checkIndex_0 ++ []
theorem dksX1_checkIndex_0 : cX1_checkIndex.data.toList.drop 0 = dktX1_checkIndex_0 := by decide +kernel
theorem dX1_checkIndex_0 : decode cX1_checkIndex 0 = .ok (.iload_n 0, 1) := dk_26 (dk_at dksX1_checkIndex_0 0 rfl rfl)
theorem dX1_checkIndex_1 : decode cX1_checkIndex 1 = .ok (.iconst 0, 1) := dk_3 (dk_at dksX1_checkIndex_0 1 rfl rfl)
theorem dX1_checkIndex_2 : decode cX1_checkIndex 2 = .ok (.iload_n 1, 1) := dk_27 (dk_at dksX1_checkIndex_0 2 rfl rfl)
theorem dX1_checkIndex_3 : decode cX1_checkIndex 3 = .ok (.iconst 1, 1) := dk_4 (dk_at dksX1_checkIndex_0 3 rfl rfl)
theorem dX1_checkIndex_4 : decode cX1_checkIndex 4 = .ok (.isub, 1) := dk_100 (dk_at dksX1_checkIndex_0 4 rfl rfl)
theorem dX1_checkIndex_5 : decode cX1_checkIndex 5 = .ok (.invokestatic 10, 3) := dk_184 0 10 (dk_at dksX1_checkIndex_0 5 rfl rfl)
theorem dX1_checkIndex_8 : decode cX1_checkIndex 8 = .ok (.ifCond .ne 11, 3) := dk_154 0 11 (dk_at dksX1_checkIndex_0 8 rfl rfl)
theorem dX1_checkIndex_11 : decode cX1_checkIndex 11 = .ok (.new 16, 3) := dk_187 0 16 (dk_at dksX1_checkIndex_0 11 rfl rfl)
theorem dX1_checkIndex_14 : decode cX1_checkIndex 14 = .ok (.dup, 1) := dk_89 (dk_at dksX1_checkIndex_0 14 rfl rfl)
theorem dX1_checkIndex_15 : decode cX1_checkIndex 15 = .ok (.invokespecial 18, 3) := dk_183 0 18 (dk_at dksX1_checkIndex_0 15 rfl rfl)
theorem dX1_checkIndex_18 : decode cX1_checkIndex 18 = .ok (.athrow, 1) := dk_191 (dk_at dksX1_checkIndex_0 18 rfl rfl)
theorem dX1_checkIndex_19 : decode cX1_checkIndex 19 = .ok (.return_, 1) := dk_177 (dk_at dksX1_checkIndex_0 19 rfl rfl)
abbrev cX1_play : ByteArray := prog_1_method_17_code
def yX1_play : MethodName := ⟨RX1, "play", "(II)I"⟩
def dkwX1_play_2 : List UInt8 := [183, 0, 122, 191]
abbrev dktX1_play_2 : List UInt8 := dkwX1_play_2 ++ []
def dkwX1_play_1 : List UInt8 := [3, 184, 0, 107, 42, 180, 0, 36, 27, 28, 182, 0, 110, 172, 78, 42, 45, 181, 0, 116, 187, 0, 120, 89]
abbrev dktX1_play_1 : List UInt8 := dkwX1_play_1 ++ dktX1_play_2
def dkwX1_play_0 : List UInt8 := [42, 27, 182, 0, 100, 42, 28, 182, 0, 100, 42, 180, 0, 36, 182, 0, 103, 154, 0, 7, 4, 167, 0, 4]
abbrev dktX1_play_0 : List UInt8 := dkwX1_play_0 ++ dktX1_play_1
theorem dksX1_play_0 : cX1_play.data.toList.drop 0 = dktX1_play_0 := by decide +kernel
theorem dksX1_play_1 : cX1_play.data.toList.drop 24 = dktX1_play_1 := dk_seg dksX1_play_0 24 rfl rfl
theorem dksX1_play_2 : cX1_play.data.toList.drop 48 = dktX1_play_2 := dk_seg dksX1_play_1 24 rfl rfl
theorem dX1_play_0 : decode cX1_play 0 = .ok (.aload_n 0, 1) := dk_42 (dk_at dksX1_play_0 0 rfl rfl)
theorem dX1_play_1 : decode cX1_play 1 = .ok (.iload_n 1, 1) := dk_27 (dk_at dksX1_play_0 1 rfl rfl)
theorem dX1_play_2 : decode cX1_play 2 = .ok (.invokevirtual 100, 3) := dk_182 0 100 (dk_at dksX1_play_0 2 rfl rfl)
theorem dX1_play_5 : decode cX1_play 5 = .ok (.aload_n 0, 1) := dk_42 (dk_at dksX1_play_0 5 rfl rfl)
theorem dX1_play_6 : decode cX1_play 6 = .ok (.iload_n 2, 1) := dk_28 (dk_at dksX1_play_0 6 rfl rfl)
theorem dX1_play_7 : decode cX1_play 7 = .ok (.invokevirtual 100, 3) := dk_182 0 100 (dk_at dksX1_play_0 7 rfl rfl)
theorem dX1_play_10 : decode cX1_play 10 = .ok (.aload_n 0, 1) := dk_42 (dk_at dksX1_play_0 10 rfl rfl)
theorem dX1_play_11 : decode cX1_play 11 = .ok (.getfield 36, 3) := dk_180 0 36 (dk_at dksX1_play_0 11 rfl rfl)
theorem dX1_play_14 : decode cX1_play 14 = .ok (.invokevirtual 103, 3) := dk_182 0 103 (dk_at dksX1_play_0 14 rfl rfl)
theorem dX1_play_17 : decode cX1_play 17 = .ok (.ifCond .ne 7, 3) := dk_154 0 7 (dk_at dksX1_play_0 17 rfl rfl)
theorem dX1_play_20 : decode cX1_play 20 = .ok (.iconst 1, 1) := dk_4 (dk_at dksX1_play_0 20 rfl rfl)
theorem dX1_play_21 : decode cX1_play 21 = .ok (.goto 4, 3) := dk_167 0 4 (dk_at dksX1_play_0 21 rfl rfl)
theorem dX1_play_24 : decode cX1_play 24 = .ok (.iconst 0, 1) := dk_3 (dk_at dksX1_play_1 0 rfl rfl)
theorem dX1_play_25 : decode cX1_play 25 = .ok (.invokestatic 107, 3) := dk_184 0 107 (dk_at dksX1_play_1 1 rfl rfl)
theorem dX1_play_28 : decode cX1_play 28 = .ok (.aload_n 0, 1) := dk_42 (dk_at dksX1_play_1 4 rfl rfl)
theorem dX1_play_29 : decode cX1_play 29 = .ok (.getfield 36, 3) := dk_180 0 36 (dk_at dksX1_play_1 5 rfl rfl)
theorem dX1_play_32 : decode cX1_play 32 = .ok (.iload_n 1, 1) := dk_27 (dk_at dksX1_play_1 8 rfl rfl)
theorem dX1_play_33 : decode cX1_play 33 = .ok (.iload_n 2, 1) := dk_28 (dk_at dksX1_play_1 9 rfl rfl)
theorem dX1_play_34 : decode cX1_play 34 = .ok (.invokevirtual 110, 3) := dk_182 0 110 (dk_at dksX1_play_1 10 rfl rfl)
theorem dX1_play_37 : decode cX1_play 37 = .ok (.ireturn, 1) := dk_172 (dk_at dksX1_play_1 13 rfl rfl)
theorem dX1_play_38 : decode cX1_play 38 = .ok (.astore_n 3, 1) := dk_78 (dk_at dksX1_play_1 14 rfl rfl)
theorem dX1_play_39 : decode cX1_play 39 = .ok (.aload_n 0, 1) := dk_42 (dk_at dksX1_play_1 15 rfl rfl)
theorem dX1_play_40 : decode cX1_play 40 = .ok (.aload_n 3, 1) := dk_45 (dk_at dksX1_play_1 16 rfl rfl)
theorem dX1_play_41 : decode cX1_play 41 = .ok (.putfield 116, 3) := dk_181 0 116 (dk_at dksX1_play_1 17 rfl rfl)
theorem dX1_play_44 : decode cX1_play 44 = .ok (.new 120, 3) := dk_187 0 120 (dk_at dksX1_play_1 20 rfl rfl)
theorem dX1_play_47 : decode cX1_play 47 = .ok (.dup, 1) := dk_89 (dk_at dksX1_play_1 23 rfl rfl)
theorem dX1_play_48 : decode cX1_play 48 = .ok (.invokespecial 122, 3) := dk_183 0 122 (dk_at dksX1_play_2 0 rfl rfl)
theorem dX1_play_51 : decode cX1_play 51 = .ok (.athrow, 1) := dk_191 (dk_at dksX1_play_2 3 rfl rfl)
abbrev cX1_checkChoice : ByteArray := prog_1_method_11_code
def yX1_checkChoice : MethodName := ⟨RX1, "checkChoice", "(I)V"⟩
def dkwX1_checkChoice_0 : List UInt8 := [27, 2, 159, 0, 8, 42, 27, 182, 0, 64, 177]
abbrev dktX1_checkChoice_0 : List UInt8 := dkwX1_checkChoice_0 ++ []
theorem dksX1_checkChoice_0 : cX1_checkChoice.data.toList.drop 0 = dktX1_checkChoice_0 := by decide +kernel
theorem dX1_checkChoice_0 : decode cX1_checkChoice 0 = .ok (.iload_n 1, 1) := dk_27 (dk_at dksX1_checkChoice_0 0 rfl rfl)
theorem dX1_checkChoice_1 : decode cX1_checkChoice 1 = .ok (.iconst (-1), 1) := dk_2 (dk_at dksX1_checkChoice_0 1 rfl rfl)
theorem dX1_checkChoice_2 : decode cX1_checkChoice 2 = .ok (.if_icmp .eq 8, 3) := dk_159 0 8 (dk_at dksX1_checkChoice_0 2 rfl rfl)
theorem dX1_checkChoice_5 : decode cX1_checkChoice 5 = .ok (.aload_n 0, 1) := dk_42 (dk_at dksX1_checkChoice_0 5 rfl rfl)
theorem dX1_checkChoice_6 : decode cX1_checkChoice 6 = .ok (.iload_n 1, 1) := dk_27 (dk_at dksX1_checkChoice_0 6 rfl rfl)
theorem dX1_checkChoice_7 : decode cX1_checkChoice 7 = .ok (.invokevirtual 64, 3) := dk_182 0 64 (dk_at dksX1_checkChoice_0 7 rfl rfl)
theorem dX1_checkChoice_10 : decode cX1_checkChoice 10 = .ok (.return_, 1) := dk_177 (dk_at dksX1_checkChoice_0 10 rfl rfl)
abbrev cX1_checkCell : ByteArray := prog_1_method_10_code
def yX1_checkCell : MethodName := ⟨RX1, "checkCell", "(I)V"⟩
def dkwX1_checkCell_0 : List UInt8 := [27, 42, 180, 0, 36, 180, 0, 50, 182, 0, 54, 184, 0, 60, 177]
abbrev dktX1_checkCell_0 : List UInt8 := dkwX1_checkCell_0 ++ []
theorem dksX1_checkCell_0 : cX1_checkCell.data.toList.drop 0 = dktX1_checkCell_0 := by decide +kernel
theorem dX1_checkCell_0 : decode cX1_checkCell 0 = .ok (.iload_n 1, 1) := dk_27 (dk_at dksX1_checkCell_0 0 rfl rfl)
theorem dX1_checkCell_1 : decode cX1_checkCell 1 = .ok (.aload_n 0, 1) := dk_42 (dk_at dksX1_checkCell_0 1 rfl rfl)
theorem dX1_checkCell_2 : decode cX1_checkCell 2 = .ok (.getfield 36, 3) := dk_180 0 36 (dk_at dksX1_checkCell_0 2 rfl rfl)
theorem dX1_checkCell_5 : decode cX1_checkCell 5 = .ok (.getfield 50, 3) := dk_180 0 50 (dk_at dksX1_checkCell_0 5 rfl rfl)
theorem dX1_checkCell_8 : decode cX1_checkCell 8 = .ok (.invokevirtual 54, 3) := dk_182 0 54 (dk_at dksX1_checkCell_0 8 rfl rfl)
theorem dX1_checkCell_11 : decode cX1_checkCell 11 = .ok (.invokestatic 60, 3) := dk_184 0 60 (dk_at dksX1_checkCell_0 11 rfl rfl)
theorem dX1_checkCell_14 : decode cX1_checkCell 14 = .ok (.return_, 1) := dk_177 (dk_at dksX1_checkCell_0 14 rfl rfl)
abbrev cX1_checkState : ByteArray := prog_1_method_3_code
def yX1_checkState : MethodName := ⟨RX1, "checkState", "(Z)V"⟩
def dkwX1_checkState_0 : List UInt8 := [26, 154, 0, 11, 187, 0, 7, 89, 183, 0, 9, 191, 177]
abbrev dktX1_checkState_0 : List UInt8 := dkwX1_checkState_0 ++ []
theorem dksX1_checkState_0 : cX1_checkState.data.toList.drop 0 = dktX1_checkState_0 := by decide +kernel
theorem dX1_checkState_0 : decode cX1_checkState 0 = .ok (.iload_n 0, 1) := dk_26 (dk_at dksX1_checkState_0 0 rfl rfl)
theorem dX1_checkState_1 : decode cX1_checkState 1 = .ok (.ifCond .ne 11, 3) := dk_154 0 11 (dk_at dksX1_checkState_0 1 rfl rfl)
theorem dX1_checkState_4 : decode cX1_checkState 4 = .ok (.new 7, 3) := dk_187 0 7 (dk_at dksX1_checkState_0 4 rfl rfl)
theorem dX1_checkState_7 : decode cX1_checkState 7 = .ok (.dup, 1) := dk_89 (dk_at dksX1_checkState_0 7 rfl rfl)
theorem dX1_checkState_8 : decode cX1_checkState 8 = .ok (.invokespecial 9, 3) := dk_183 0 9 (dk_at dksX1_checkState_0 8 rfl rfl)
theorem dX1_checkState_11 : decode cX1_checkState 11 = .ok (.athrow, 1) := dk_191 (dk_at dksX1_checkState_0 11 rfl rfl)
theorem dX1_checkState_12 : decode cX1_checkState 12 = .ok (.return_, 1) := dk_177 (dk_at dksX1_checkState_0 12 rfl rfl)
abbrev cX1_has : ByteArray := prog_1_method_7_code
def yX1_has : MethodName := ⟨RX1, "has", "(JI)Z"⟩
def dkwX1_has_0 : List UInt8 := [30, 28, 125, 10, 127, 9, 148, 153, 0, 7, 4, 167, 0, 4, 3, 172]
abbrev dktX1_has_0 : List UInt8 := dkwX1_has_0 ++ []
theorem dksX1_has_0 : cX1_has.data.toList.drop 0 = dktX1_has_0 := by decide +kernel
theorem dX1_has_0 : decode cX1_has 0 = .ok (.lload_n 0, 1) := dk_30 (dk_at dksX1_has_0 0 rfl rfl)
theorem dX1_has_1 : decode cX1_has 1 = .ok (.iload_n 2, 1) := dk_28 (dk_at dksX1_has_0 1 rfl rfl)
theorem dX1_has_2 : decode cX1_has 2 = .ok (.lushr, 1) := dk_125 (dk_at dksX1_has_0 2 rfl rfl)
theorem dX1_has_3 : decode cX1_has 3 = .ok (.lconst 1, 1) := dk_10 (dk_at dksX1_has_0 3 rfl rfl)
theorem dX1_has_4 : decode cX1_has 4 = .ok (.land, 1) := dk_127 (dk_at dksX1_has_0 4 rfl rfl)
theorem dX1_has_5 : decode cX1_has 5 = .ok (.lconst 0, 1) := dk_9 (dk_at dksX1_has_0 5 rfl rfl)
theorem dX1_has_6 : decode cX1_has 6 = .ok (.lcmp, 1) := dk_148 (dk_at dksX1_has_0 6 rfl rfl)
theorem dX1_has_7 : decode cX1_has 7 = .ok (.ifCond .eq 7, 3) := dk_153 0 7 (dk_at dksX1_has_0 7 rfl rfl)
theorem dX1_has_10 : decode cX1_has 10 = .ok (.iconst 1, 1) := dk_4 (dk_at dksX1_has_0 10 rfl rfl)
theorem dX1_has_11 : decode cX1_has 11 = .ok (.goto 4, 3) := dk_167 0 4 (dk_at dksX1_has_0 11 rfl rfl)
theorem dX1_has_14 : decode cX1_has 14 = .ok (.iconst 0, 1) := dk_3 (dk_at dksX1_has_0 14 rfl rfl)
theorem dX1_has_15 : decode cX1_has 15 = .ok (.ireturn, 1) := dk_172 (dk_at dksX1_has_0 15 rfl rfl)
abbrev cX1_undo : ByteArray := prog_1_method_18_code
def yX1_undo : MethodName := ⟨RX1, "undo", "()I"⟩
def dkwX1_undo_2 : List UInt8 := [172]
abbrev dktX1_undo_2 : List UInt8 := dkwX1_undo_2 ++ []
def dkwX1_undo_1 : List UInt8 := [180, 0, 126, 42, 180, 0, 36, 182, 0, 123, 182, 0, 130, 192, 0, 136, 76, 42, 180, 0, 36, 182, 0, 123]
abbrev dktX1_undo_1 : List UInt8 := dkwX1_undo_1 ++ dktX1_undo_2
def dkwX1_undo_0 : List UInt8 := [42, 180, 0, 36, 182, 0, 123, 158, 0, 7, 4, 167, 0, 4, 3, 184, 0, 107, 42, 180, 0, 36]
abbrev dktX1_undo_0 : List UInt8 := dkwX1_undo_0 ++ dktX1_undo_1
theorem dksX1_undo_0 : cX1_undo.data.toList.drop 0 = dktX1_undo_0 := by decide +kernel
theorem dksX1_undo_1 : cX1_undo.data.toList.drop 22 = dktX1_undo_1 := dk_seg dksX1_undo_0 22 rfl rfl
theorem dksX1_undo_2 : cX1_undo.data.toList.drop 46 = dktX1_undo_2 := dk_seg dksX1_undo_1 24 rfl rfl
theorem dX1_undo_0 : decode cX1_undo 0 = .ok (.aload_n 0, 1) := dk_42 (dk_at dksX1_undo_0 0 rfl rfl)
theorem dX1_undo_1 : decode cX1_undo 1 = .ok (.getfield 36, 3) := dk_180 0 36 (dk_at dksX1_undo_0 1 rfl rfl)
theorem dX1_undo_4 : decode cX1_undo 4 = .ok (.invokevirtual 123, 3) := dk_182 0 123 (dk_at dksX1_undo_0 4 rfl rfl)
theorem dX1_undo_7 : decode cX1_undo 7 = .ok (.ifCond .le 7, 3) := dk_158 0 7 (dk_at dksX1_undo_0 7 rfl rfl)
theorem dX1_undo_10 : decode cX1_undo 10 = .ok (.iconst 1, 1) := dk_4 (dk_at dksX1_undo_0 10 rfl rfl)
theorem dX1_undo_11 : decode cX1_undo 11 = .ok (.goto 4, 3) := dk_167 0 4 (dk_at dksX1_undo_0 11 rfl rfl)
theorem dX1_undo_14 : decode cX1_undo 14 = .ok (.iconst 0, 1) := dk_3 (dk_at dksX1_undo_0 14 rfl rfl)
theorem dX1_undo_15 : decode cX1_undo 15 = .ok (.invokestatic 107, 3) := dk_184 0 107 (dk_at dksX1_undo_0 15 rfl rfl)
theorem dX1_undo_18 : decode cX1_undo 18 = .ok (.aload_n 0, 1) := dk_42 (dk_at dksX1_undo_0 18 rfl rfl)
theorem dX1_undo_19 : decode cX1_undo 19 = .ok (.getfield 36, 3) := dk_180 0 36 (dk_at dksX1_undo_0 19 rfl rfl)
theorem dX1_undo_22 : decode cX1_undo 22 = .ok (.getfield 126, 3) := dk_180 0 126 (dk_at dksX1_undo_1 0 rfl rfl)
theorem dX1_undo_25 : decode cX1_undo 25 = .ok (.aload_n 0, 1) := dk_42 (dk_at dksX1_undo_1 3 rfl rfl)
theorem dX1_undo_26 : decode cX1_undo 26 = .ok (.getfield 36, 3) := dk_180 0 36 (dk_at dksX1_undo_1 4 rfl rfl)
theorem dX1_undo_29 : decode cX1_undo 29 = .ok (.invokevirtual 123, 3) := dk_182 0 123 (dk_at dksX1_undo_1 7 rfl rfl)
theorem dX1_undo_32 : decode cX1_undo 32 = .ok (.invokevirtual 130, 3) := dk_182 0 130 (dk_at dksX1_undo_1 10 rfl rfl)
theorem dX1_undo_35 : decode cX1_undo 35 = .ok (.checkcast 136, 3) := dk_192 0 136 (dk_at dksX1_undo_1 13 rfl rfl)
theorem dX1_undo_38 : decode cX1_undo 38 = .ok (.astore_n 1, 1) := dk_76 (dk_at dksX1_undo_1 16 rfl rfl)
theorem dX1_undo_39 : decode cX1_undo 39 = .ok (.aload_n 0, 1) := dk_42 (dk_at dksX1_undo_1 17 rfl rfl)
theorem dX1_undo_40 : decode cX1_undo 40 = .ok (.getfield 36, 3) := dk_180 0 36 (dk_at dksX1_undo_1 18 rfl rfl)
theorem dX1_undo_43 : decode cX1_undo 43 = .ok (.invokevirtual 123, 3) := dk_182 0 123 (dk_at dksX1_undo_1 21 rfl rfl)
theorem dX1_undo_46 : decode cX1_undo 46 = .ok (.ireturn, 1) := dk_172 (dk_at dksX1_undo_2 0 rfl rfl)
abbrev cX1_cell : ByteArray := prog_1_method_20_code
def yX1_cell : MethodName := ⟨RX1, "cell", "(II)I"⟩
def dkwX1_cell_2 : List UInt8 := [180, 0, 50, 180, 0, 138, 28, 104, 27, 96, 182, 0, 144, 172]
abbrev dktX1_cell_2 : List UInt8 := dkwX1_cell_2 ++ []
def dkwX1_cell_1 : List UInt8 := [180, 0, 141, 184, 0, 60, 42, 180, 0, 36, 182, 0, 80, 42, 180, 0, 36, 180, 0, 50, 42, 180, 0, 36]
abbrev dktX1_cell_1 : List UInt8 := dkwX1_cell_1 ++ dktX1_cell_2
def dkwX1_cell_0 : List UInt8 := [27, 42, 180, 0, 36, 180, 0, 50, 180, 0, 138, 184, 0, 60, 28, 42, 180, 0, 36, 180, 0, 50]
abbrev dktX1_cell_0 : List UInt8 := dkwX1_cell_0 ++ dktX1_cell_1
theorem dksX1_cell_0 : cX1_cell.data.toList.drop 0 = dktX1_cell_0 := by decide +kernel
theorem dksX1_cell_1 : cX1_cell.data.toList.drop 22 = dktX1_cell_1 := dk_seg dksX1_cell_0 22 rfl rfl
theorem dksX1_cell_2 : cX1_cell.data.toList.drop 46 = dktX1_cell_2 := dk_seg dksX1_cell_1 24 rfl rfl
theorem dX1_cell_0 : decode cX1_cell 0 = .ok (.iload_n 1, 1) := dk_27 (dk_at dksX1_cell_0 0 rfl rfl)
theorem dX1_cell_1 : decode cX1_cell 1 = .ok (.aload_n 0, 1) := dk_42 (dk_at dksX1_cell_0 1 rfl rfl)
theorem dX1_cell_2 : decode cX1_cell 2 = .ok (.getfield 36, 3) := dk_180 0 36 (dk_at dksX1_cell_0 2 rfl rfl)
theorem dX1_cell_5 : decode cX1_cell 5 = .ok (.getfield 50, 3) := dk_180 0 50 (dk_at dksX1_cell_0 5 rfl rfl)
theorem dX1_cell_8 : decode cX1_cell 8 = .ok (.getfield 138, 3) := dk_180 0 138 (dk_at dksX1_cell_0 8 rfl rfl)
theorem dX1_cell_11 : decode cX1_cell 11 = .ok (.invokestatic 60, 3) := dk_184 0 60 (dk_at dksX1_cell_0 11 rfl rfl)
theorem dX1_cell_14 : decode cX1_cell 14 = .ok (.iload_n 2, 1) := dk_28 (dk_at dksX1_cell_0 14 rfl rfl)
theorem dX1_cell_15 : decode cX1_cell 15 = .ok (.aload_n 0, 1) := dk_42 (dk_at dksX1_cell_0 15 rfl rfl)
theorem dX1_cell_16 : decode cX1_cell 16 = .ok (.getfield 36, 3) := dk_180 0 36 (dk_at dksX1_cell_0 16 rfl rfl)
theorem dX1_cell_19 : decode cX1_cell 19 = .ok (.getfield 50, 3) := dk_180 0 50 (dk_at dksX1_cell_0 19 rfl rfl)
theorem dX1_cell_22 : decode cX1_cell 22 = .ok (.getfield 141, 3) := dk_180 0 141 (dk_at dksX1_cell_1 0 rfl rfl)
theorem dX1_cell_25 : decode cX1_cell 25 = .ok (.invokestatic 60, 3) := dk_184 0 60 (dk_at dksX1_cell_1 3 rfl rfl)
theorem dX1_cell_28 : decode cX1_cell 28 = .ok (.aload_n 0, 1) := dk_42 (dk_at dksX1_cell_1 6 rfl rfl)
theorem dX1_cell_29 : decode cX1_cell 29 = .ok (.getfield 36, 3) := dk_180 0 36 (dk_at dksX1_cell_1 7 rfl rfl)
theorem dX1_cell_32 : decode cX1_cell 32 = .ok (.invokevirtual 80, 3) := dk_182 0 80 (dk_at dksX1_cell_1 10 rfl rfl)
theorem dX1_cell_35 : decode cX1_cell 35 = .ok (.aload_n 0, 1) := dk_42 (dk_at dksX1_cell_1 13 rfl rfl)
theorem dX1_cell_36 : decode cX1_cell 36 = .ok (.getfield 36, 3) := dk_180 0 36 (dk_at dksX1_cell_1 14 rfl rfl)
theorem dX1_cell_39 : decode cX1_cell 39 = .ok (.getfield 50, 3) := dk_180 0 50 (dk_at dksX1_cell_1 17 rfl rfl)
theorem dX1_cell_42 : decode cX1_cell 42 = .ok (.aload_n 0, 1) := dk_42 (dk_at dksX1_cell_1 20 rfl rfl)
theorem dX1_cell_43 : decode cX1_cell 43 = .ok (.getfield 36, 3) := dk_180 0 36 (dk_at dksX1_cell_1 21 rfl rfl)
theorem dX1_cell_46 : decode cX1_cell 46 = .ok (.getfield 50, 3) := dk_180 0 50 (dk_at dksX1_cell_2 0 rfl rfl)
theorem dX1_cell_49 : decode cX1_cell 49 = .ok (.getfield 138, 3) := dk_180 0 138 (dk_at dksX1_cell_2 3 rfl rfl)
theorem dX1_cell_52 : decode cX1_cell 52 = .ok (.iload_n 2, 1) := dk_28 (dk_at dksX1_cell_2 6 rfl rfl)
theorem dX1_cell_53 : decode cX1_cell 53 = .ok (.imul, 1) := dk_104 (dk_at dksX1_cell_2 7 rfl rfl)
theorem dX1_cell_54 : decode cX1_cell 54 = .ok (.iload_n 1, 1) := dk_27 (dk_at dksX1_cell_2 8 rfl rfl)
theorem dX1_cell_55 : decode cX1_cell 55 = .ok (.iadd, 1) := dk_96 (dk_at dksX1_cell_2 9 rfl rfl)
theorem dX1_cell_56 : decode cX1_cell 56 = .ok (.invokevirtual 144, 3) := dk_182 0 144 (dk_at dksX1_cell_2 10 rfl rfl)
theorem dX1_cell_59 : decode cX1_cell 59 = .ok (.ireturn, 1) := dk_172 (dk_at dksX1_cell_2 13 rfl rfl)
abbrev cX1_since : ByteArray := prog_1_method_21_code
def yX1_since : MethodName := ⟨RX1, "since", "(II)I"⟩
def dkwX1_since_1 : List UInt8 := [182, 0, 148, 180, 0, 152, 27, 46, 167, 0, 15, 42, 180, 0, 36, 182, 0, 148, 180, 0, 154, 27, 46, 172]
abbrev dktX1_since_1 : List UInt8 := dkwX1_since_1 ++ []
def dkwX1_since_0 : List UInt8 := [42, 27, 182, 0, 64, 28, 3, 4, 184, 0, 10, 184, 0, 72, 28, 154, 0, 18, 42, 180, 0, 36]
abbrev dktX1_since_0 : List UInt8 := dkwX1_since_0 ++ dktX1_since_1
theorem dksX1_since_0 : cX1_since.data.toList.drop 0 = dktX1_since_0 := by decide +kernel
theorem dksX1_since_1 : cX1_since.data.toList.drop 22 = dktX1_since_1 := dk_seg dksX1_since_0 22 rfl rfl
theorem dX1_since_0 : decode cX1_since 0 = .ok (.aload_n 0, 1) := dk_42 (dk_at dksX1_since_0 0 rfl rfl)
theorem dX1_since_1 : decode cX1_since 1 = .ok (.iload_n 1, 1) := dk_27 (dk_at dksX1_since_0 1 rfl rfl)
theorem dX1_since_2 : decode cX1_since 2 = .ok (.invokevirtual 64, 3) := dk_182 0 64 (dk_at dksX1_since_0 2 rfl rfl)
theorem dX1_since_5 : decode cX1_since 5 = .ok (.iload_n 2, 1) := dk_28 (dk_at dksX1_since_0 5 rfl rfl)
theorem dX1_since_6 : decode cX1_since 6 = .ok (.iconst 0, 1) := dk_3 (dk_at dksX1_since_0 6 rfl rfl)
theorem dX1_since_7 : decode cX1_since 7 = .ok (.iconst 1, 1) := dk_4 (dk_at dksX1_since_0 7 rfl rfl)
theorem dX1_since_8 : decode cX1_since 8 = .ok (.invokestatic 10, 3) := dk_184 0 10 (dk_at dksX1_since_0 8 rfl rfl)
theorem dX1_since_11 : decode cX1_since 11 = .ok (.invokestatic 72, 3) := dk_184 0 72 (dk_at dksX1_since_0 11 rfl rfl)
theorem dX1_since_14 : decode cX1_since 14 = .ok (.iload_n 2, 1) := dk_28 (dk_at dksX1_since_0 14 rfl rfl)
theorem dX1_since_15 : decode cX1_since 15 = .ok (.ifCond .ne 18, 3) := dk_154 0 18 (dk_at dksX1_since_0 15 rfl rfl)
theorem dX1_since_18 : decode cX1_since 18 = .ok (.aload_n 0, 1) := dk_42 (dk_at dksX1_since_0 18 rfl rfl)
theorem dX1_since_19 : decode cX1_since 19 = .ok (.getfield 36, 3) := dk_180 0 36 (dk_at dksX1_since_0 19 rfl rfl)
theorem dX1_since_22 : decode cX1_since 22 = .ok (.invokevirtual 148, 3) := dk_182 0 148 (dk_at dksX1_since_1 0 rfl rfl)
theorem dX1_since_25 : decode cX1_since 25 = .ok (.getfield 152, 3) := dk_180 0 152 (dk_at dksX1_since_1 3 rfl rfl)
theorem dX1_since_28 : decode cX1_since 28 = .ok (.iload_n 1, 1) := dk_27 (dk_at dksX1_since_1 6 rfl rfl)
theorem dX1_since_29 : decode cX1_since 29 = .ok (.iaload, 1) := dk_46 (dk_at dksX1_since_1 7 rfl rfl)
theorem dX1_since_30 : decode cX1_since 30 = .ok (.goto 15, 3) := dk_167 0 15 (dk_at dksX1_since_1 8 rfl rfl)
theorem dX1_since_33 : decode cX1_since 33 = .ok (.aload_n 0, 1) := dk_42 (dk_at dksX1_since_1 11 rfl rfl)
theorem dX1_since_34 : decode cX1_since 34 = .ok (.getfield 36, 3) := dk_180 0 36 (dk_at dksX1_since_1 12 rfl rfl)
theorem dX1_since_37 : decode cX1_since 37 = .ok (.invokevirtual 148, 3) := dk_182 0 148 (dk_at dksX1_since_1 15 rfl rfl)
theorem dX1_since_40 : decode cX1_since 40 = .ok (.getfield 154, 3) := dk_180 0 154 (dk_at dksX1_since_1 18 rfl rfl)
theorem dX1_since_43 : decode cX1_since 43 = .ok (.iload_n 1, 1) := dk_27 (dk_at dksX1_since_1 21 rfl rfl)
theorem dX1_since_44 : decode cX1_since 44 = .ok (.iaload, 1) := dk_46 (dk_at dksX1_since_1 22 rfl rfl)
theorem dX1_since_45 : decode cX1_since 45 = .ok (.ireturn, 1) := dk_172 (dk_at dksX1_since_1 23 rfl rfl)
abbrev cX1_count : ByteArray := prog_1_method_23_code
def yX1_count : MethodName := ⟨RX1, "count", "(I)I"⟩
def dkwX1_count_5 : List UInt8 := [42, 6, 182, 0, 169, 172]
abbrev dktX1_count_5 : List UInt8 := dkwX1_count_5 ++ []
def dkwX1_count_4 : List UInt8 := [184, 0, 90, 172, 42, 180, 0, 36, 182, 0, 80, 180, 0, 165, 184, 0, 90, 172, 42, 5, 182, 0, 169, 172]
abbrev dktX1_count_4 : List UInt8 := dkwX1_count_4 ++ dktX1_count_5
def dkwX1_count_3 : List UInt8 := [180, 0, 50, 180, 0, 141, 172, 42, 180, 0, 36, 182, 0, 80, 42, 180, 0, 36, 180, 0, 50, 182, 0, 84]
abbrev dktX1_count_3 : List UInt8 := dkwX1_count_3 ++ dktX1_count_4
def dkwX1_count_2 : List UInt8 := [42, 180, 0, 36, 182, 0, 123, 172, 42, 180, 0, 36, 180, 0, 50, 180, 0, 138, 172, 42, 180, 0, 36]
abbrev dktX1_count_2 : List UInt8 := dkwX1_count_2 ++ dktX1_count_3
def dkwX1_count_1 : List UInt8 := [170, 0, 0, 0, 108, 0, 0, 0, 0, 0, 0, 0, 5, 0, 0, 0, 37, 0, 0, 0, 45, 0, 0, 0, 56, 0, 0, 0, 67, 0, 0, 0, 88, 0, 0, 0, 102]
abbrev dktX1_count_1 : List UInt8 := dkwX1_count_1 ++ dktX1_count_2
def dkwX1_count_0 : List UInt8 := [27, 3, 16, 6, 184, 0, 10, 184, 0, 72, 27]
abbrev dktX1_count_0 : List UInt8 := dkwX1_count_0 ++ dktX1_count_1
theorem dksX1_count_0 : cX1_count.data.toList.drop 0 = dktX1_count_0 := by decide +kernel
theorem dksX1_count_1 : cX1_count.data.toList.drop 11 = dktX1_count_1 := dk_seg dksX1_count_0 11 rfl rfl
theorem dksX1_count_2 : cX1_count.data.toList.drop 48 = dktX1_count_2 := dk_seg dksX1_count_1 37 rfl rfl
theorem dksX1_count_3 : cX1_count.data.toList.drop 71 = dktX1_count_3 := dk_seg dksX1_count_2 23 rfl rfl
theorem dksX1_count_4 : cX1_count.data.toList.drop 95 = dktX1_count_4 := dk_seg dksX1_count_3 24 rfl rfl
theorem dksX1_count_5 : cX1_count.data.toList.drop 119 = dktX1_count_5 := dk_seg dksX1_count_4 24 rfl rfl
theorem dX1_count_0 : decode cX1_count 0 = .ok (.iload_n 1, 1) := dk_27 (dk_at dksX1_count_0 0 rfl rfl)
theorem dX1_count_1 : decode cX1_count 1 = .ok (.iconst 0, 1) := dk_3 (dk_at dksX1_count_0 1 rfl rfl)
theorem dX1_count_2 : decode cX1_count 2 = .ok (.bipush 6, 2) := dk_16 6 (dk_at dksX1_count_0 2 rfl rfl)
theorem dX1_count_4 : decode cX1_count 4 = .ok (.invokestatic 10, 3) := dk_184 0 10 (dk_at dksX1_count_0 4 rfl rfl)
theorem dX1_count_7 : decode cX1_count 7 = .ok (.invokestatic 72, 3) := dk_184 0 72 (dk_at dksX1_count_0 7 rfl rfl)
theorem dX1_count_10 : decode cX1_count 10 = .ok (.iload_n 1, 1) := dk_27 (dk_at dksX1_count_0 10 rfl rfl)
theorem dX1_count_11 : decode cX1_count 11 = .ok (.tableswitch 108 0 5 #[37, 45, 56, 67, 88, 102], 37) := by decide +kernel
theorem dX1_count_48 : decode cX1_count 48 = .ok (.aload_n 0, 1) := dk_42 (dk_at dksX1_count_2 0 rfl rfl)
theorem dX1_count_49 : decode cX1_count 49 = .ok (.getfield 36, 3) := dk_180 0 36 (dk_at dksX1_count_2 1 rfl rfl)
theorem dX1_count_52 : decode cX1_count 52 = .ok (.invokevirtual 123, 3) := dk_182 0 123 (dk_at dksX1_count_2 4 rfl rfl)
theorem dX1_count_55 : decode cX1_count 55 = .ok (.ireturn, 1) := dk_172 (dk_at dksX1_count_2 7 rfl rfl)
theorem dX1_count_56 : decode cX1_count 56 = .ok (.aload_n 0, 1) := dk_42 (dk_at dksX1_count_2 8 rfl rfl)
theorem dX1_count_57 : decode cX1_count 57 = .ok (.getfield 36, 3) := dk_180 0 36 (dk_at dksX1_count_2 9 rfl rfl)
theorem dX1_count_60 : decode cX1_count 60 = .ok (.getfield 50, 3) := dk_180 0 50 (dk_at dksX1_count_2 12 rfl rfl)
theorem dX1_count_63 : decode cX1_count 63 = .ok (.getfield 138, 3) := dk_180 0 138 (dk_at dksX1_count_2 15 rfl rfl)
theorem dX1_count_66 : decode cX1_count 66 = .ok (.ireturn, 1) := dk_172 (dk_at dksX1_count_2 18 rfl rfl)
theorem dX1_count_67 : decode cX1_count 67 = .ok (.aload_n 0, 1) := dk_42 (dk_at dksX1_count_2 19 rfl rfl)
theorem dX1_count_68 : decode cX1_count 68 = .ok (.getfield 36, 3) := dk_180 0 36 (dk_at dksX1_count_2 20 rfl rfl)
theorem dX1_count_71 : decode cX1_count 71 = .ok (.getfield 50, 3) := dk_180 0 50 (dk_at dksX1_count_3 0 rfl rfl)
theorem dX1_count_74 : decode cX1_count 74 = .ok (.getfield 141, 3) := dk_180 0 141 (dk_at dksX1_count_3 3 rfl rfl)
theorem dX1_count_77 : decode cX1_count 77 = .ok (.ireturn, 1) := dk_172 (dk_at dksX1_count_3 6 rfl rfl)
theorem dX1_count_78 : decode cX1_count 78 = .ok (.aload_n 0, 1) := dk_42 (dk_at dksX1_count_3 7 rfl rfl)
theorem dX1_count_79 : decode cX1_count 79 = .ok (.getfield 36, 3) := dk_180 0 36 (dk_at dksX1_count_3 8 rfl rfl)
theorem dX1_count_82 : decode cX1_count 82 = .ok (.invokevirtual 80, 3) := dk_182 0 80 (dk_at dksX1_count_3 11 rfl rfl)
theorem dX1_count_85 : decode cX1_count 85 = .ok (.aload_n 0, 1) := dk_42 (dk_at dksX1_count_3 14 rfl rfl)
theorem dX1_count_86 : decode cX1_count 86 = .ok (.getfield 36, 3) := dk_180 0 36 (dk_at dksX1_count_3 15 rfl rfl)
theorem dX1_count_89 : decode cX1_count 89 = .ok (.getfield 50, 3) := dk_180 0 50 (dk_at dksX1_count_3 18 rfl rfl)
theorem dX1_count_92 : decode cX1_count 92 = .ok (.invokevirtual 84, 3) := dk_182 0 84 (dk_at dksX1_count_3 21 rfl rfl)
theorem dX1_count_95 : decode cX1_count 95 = .ok (.invokestatic 90, 3) := dk_184 0 90 (dk_at dksX1_count_4 0 rfl rfl)
theorem dX1_count_98 : decode cX1_count 98 = .ok (.ireturn, 1) := dk_172 (dk_at dksX1_count_4 3 rfl rfl)
theorem dX1_count_99 : decode cX1_count 99 = .ok (.aload_n 0, 1) := dk_42 (dk_at dksX1_count_4 4 rfl rfl)
theorem dX1_count_100 : decode cX1_count 100 = .ok (.getfield 36, 3) := dk_180 0 36 (dk_at dksX1_count_4 5 rfl rfl)
theorem dX1_count_103 : decode cX1_count 103 = .ok (.invokevirtual 80, 3) := dk_182 0 80 (dk_at dksX1_count_4 8 rfl rfl)
theorem dX1_count_106 : decode cX1_count 106 = .ok (.getfield 165, 3) := dk_180 0 165 (dk_at dksX1_count_4 11 rfl rfl)
theorem dX1_count_109 : decode cX1_count 109 = .ok (.invokestatic 90, 3) := dk_184 0 90 (dk_at dksX1_count_4 14 rfl rfl)
theorem dX1_count_112 : decode cX1_count 112 = .ok (.ireturn, 1) := dk_172 (dk_at dksX1_count_4 17 rfl rfl)
theorem dX1_count_113 : decode cX1_count 113 = .ok (.aload_n 0, 1) := dk_42 (dk_at dksX1_count_4 18 rfl rfl)
theorem dX1_count_114 : decode cX1_count 114 = .ok (.iconst 2, 1) := dk_5 (dk_at dksX1_count_4 19 rfl rfl)
theorem dX1_count_115 : decode cX1_count 115 = .ok (.invokevirtual 169, 3) := dk_182 0 169 (dk_at dksX1_count_4 20 rfl rfl)
theorem dX1_count_118 : decode cX1_count 118 = .ok (.ireturn, 1) := dk_172 (dk_at dksX1_count_4 23 rfl rfl)
theorem dX1_count_119 : decode cX1_count 119 = .ok (.aload_n 0, 1) := dk_42 (dk_at dksX1_count_5 0 rfl rfl)
theorem dX1_count_120 : decode cX1_count 120 = .ok (.iconst 3, 1) := dk_6 (dk_at dksX1_count_5 1 rfl rfl)
theorem dX1_count_121 : decode cX1_count 121 = .ok (.invokevirtual 169, 3) := dk_182 0 169 (dk_at dksX1_count_5 2 rfl rfl)
theorem dX1_count_124 : decode cX1_count 124 = .ok (.ireturn, 1) := dk_172 (dk_at dksX1_count_5 5 rfl rfl)
abbrev cX1_sum : ByteArray := prog_1_method_22_code
def yX1_sum : MethodName := ⟨RX1, "sum", "(I)I"⟩
def dkwX1_sum_1 : List UInt8 := [27, 182, 0, 161, 96, 61, 132, 3, 1, 167, 255, 227, 28, 172]
abbrev dktX1_sum_1 : List UInt8 := dkwX1_sum_1 ++ []
def dkwX1_sum_0 : List UInt8 := [3, 61, 3, 62, 29, 42, 180, 0, 36, 182, 0, 123, 162, 0, 24, 28, 42, 180, 0, 36, 29, 182, 0, 157]
abbrev dktX1_sum_0 : List UInt8 := dkwX1_sum_0 ++ dktX1_sum_1
theorem dksX1_sum_0 : cX1_sum.data.toList.drop 0 = dktX1_sum_0 := by decide +kernel
theorem dksX1_sum_1 : cX1_sum.data.toList.drop 24 = dktX1_sum_1 := dk_seg dksX1_sum_0 24 rfl rfl
theorem dX1_sum_0 : decode cX1_sum 0 = .ok (.iconst 0, 1) := dk_3 (dk_at dksX1_sum_0 0 rfl rfl)
theorem dX1_sum_1 : decode cX1_sum 1 = .ok (.istore_n 2, 1) := dk_61 (dk_at dksX1_sum_0 1 rfl rfl)
theorem dX1_sum_2 : decode cX1_sum 2 = .ok (.iconst 0, 1) := dk_3 (dk_at dksX1_sum_0 2 rfl rfl)
theorem dX1_sum_3 : decode cX1_sum 3 = .ok (.istore_n 3, 1) := dk_62 (dk_at dksX1_sum_0 3 rfl rfl)
theorem dX1_sum_4 : decode cX1_sum 4 = .ok (.iload_n 3, 1) := dk_29 (dk_at dksX1_sum_0 4 rfl rfl)
theorem dX1_sum_5 : decode cX1_sum 5 = .ok (.aload_n 0, 1) := dk_42 (dk_at dksX1_sum_0 5 rfl rfl)
theorem dX1_sum_6 : decode cX1_sum 6 = .ok (.getfield 36, 3) := dk_180 0 36 (dk_at dksX1_sum_0 6 rfl rfl)
theorem dX1_sum_9 : decode cX1_sum 9 = .ok (.invokevirtual 123, 3) := dk_182 0 123 (dk_at dksX1_sum_0 9 rfl rfl)
theorem dX1_sum_12 : decode cX1_sum 12 = .ok (.if_icmp .ge 24, 3) := dk_162 0 24 (dk_at dksX1_sum_0 12 rfl rfl)
theorem dX1_sum_15 : decode cX1_sum 15 = .ok (.iload_n 2, 1) := dk_28 (dk_at dksX1_sum_0 15 rfl rfl)
theorem dX1_sum_16 : decode cX1_sum 16 = .ok (.aload_n 0, 1) := dk_42 (dk_at dksX1_sum_0 16 rfl rfl)
theorem dX1_sum_17 : decode cX1_sum 17 = .ok (.getfield 36, 3) := dk_180 0 36 (dk_at dksX1_sum_0 17 rfl rfl)
theorem dX1_sum_20 : decode cX1_sum 20 = .ok (.iload_n 3, 1) := dk_29 (dk_at dksX1_sum_0 20 rfl rfl)
theorem dX1_sum_21 : decode cX1_sum 21 = .ok (.invokevirtual 157, 3) := dk_182 0 157 (dk_at dksX1_sum_0 21 rfl rfl)
theorem dX1_sum_24 : decode cX1_sum 24 = .ok (.iload_n 1, 1) := dk_27 (dk_at dksX1_sum_1 0 rfl rfl)
theorem dX1_sum_25 : decode cX1_sum 25 = .ok (.invokevirtual 161, 3) := dk_182 0 161 (dk_at dksX1_sum_1 1 rfl rfl)
theorem dX1_sum_28 : decode cX1_sum 28 = .ok (.iadd, 1) := dk_96 (dk_at dksX1_sum_1 4 rfl rfl)
theorem dX1_sum_29 : decode cX1_sum 29 = .ok (.istore_n 2, 1) := dk_61 (dk_at dksX1_sum_1 5 rfl rfl)
theorem dX1_sum_30 : decode cX1_sum 30 = .ok (.iinc 3 1, 3) := dk_132 3 1 (dk_at dksX1_sum_1 6 rfl rfl)
theorem dX1_sum_33 : decode cX1_sum 33 = .ok (.goto (-29), 3) := dk_167 255 227 (dk_at dksX1_sum_1 9 rfl rfl)
theorem dX1_sum_36 : decode cX1_sum 36 = .ok (.iload_n 2, 1) := dk_28 (dk_at dksX1_sum_1 12 rfl rfl)
theorem dX1_sum_37 : decode cX1_sum 37 = .ok (.ireturn, 1) := dk_172 (dk_at dksX1_sum_1 13 rfl rfl)
abbrev cX1_player : ByteArray := prog_1_method_26_code
def yX1_player : MethodName := ⟨RX1, "player", "(II)I"⟩
def dkwX1_player_4 : List UInt8 := [27, 182, 0, 204, 172, 42, 27, 28, 16, 7, 160, 0, 7, 4, 167, 0, 4, 3, 182, 0, 207, 172]
abbrev dktX1_player_4 : List UInt8 := dkwX1_player_4 ++ []
def dkwX1_player_3 : List UInt8 := [27, 47, 184, 0, 90, 172, 45, 180, 0, 201, 27, 46, 172, 42, 180, 0, 36, 180, 0, 96, 27, 46, 172, 42]
abbrev dktX1_player_3 : List UInt8 := dkwX1_player_3 ++ dktX1_player_4
def dkwX1_player_2 : List UInt8 := [42, 180, 0, 36, 45, 27, 182, 0, 190, 172, 45, 180, 0, 194, 27, 47, 184, 0, 90, 172, 45, 180, 0, 198]
abbrev dktX1_player_2 : List UInt8 := dkwX1_player_2 ++ dktX1_player_3
def dkwX1_player_1 : List UInt8 := [170, 0, 0, 0, 90, 0, 0, 0, 0, 0, 0, 0, 5, 0, 0, 0, 37, 0, 0, 0, 47, 0, 0, 0, 57, 0, 0, 0, 67, 0, 0, 0, 74, 0, 0, 0, 84]
abbrev dktX1_player_1 : List UInt8 := dkwX1_player_1 ++ dktX1_player_2
def dkwX1_player_0 : List UInt8 := [27, 184, 0, 93, 28, 3, 16, 7, 184, 0, 10, 184, 0, 72, 42, 180, 0, 36, 182, 0, 80, 78, 28]
abbrev dktX1_player_0 : List UInt8 := dkwX1_player_0 ++ dktX1_player_1
theorem dksX1_player_0 : cX1_player.data.toList.drop 0 = dktX1_player_0 := by decide +kernel
theorem dksX1_player_1 : cX1_player.data.toList.drop 23 = dktX1_player_1 := dk_seg dksX1_player_0 23 rfl rfl
theorem dksX1_player_2 : cX1_player.data.toList.drop 60 = dktX1_player_2 := dk_seg dksX1_player_1 37 rfl rfl
theorem dksX1_player_3 : cX1_player.data.toList.drop 84 = dktX1_player_3 := dk_seg dksX1_player_2 24 rfl rfl
theorem dksX1_player_4 : cX1_player.data.toList.drop 108 = dktX1_player_4 := dk_seg dksX1_player_3 24 rfl rfl
theorem dX1_player_0 : decode cX1_player 0 = .ok (.iload_n 1, 1) := dk_27 (dk_at dksX1_player_0 0 rfl rfl)
theorem dX1_player_1 : decode cX1_player 1 = .ok (.invokestatic 93, 3) := dk_184 0 93 (dk_at dksX1_player_0 1 rfl rfl)
theorem dX1_player_4 : decode cX1_player 4 = .ok (.iload_n 2, 1) := dk_28 (dk_at dksX1_player_0 4 rfl rfl)
theorem dX1_player_5 : decode cX1_player 5 = .ok (.iconst 0, 1) := dk_3 (dk_at dksX1_player_0 5 rfl rfl)
theorem dX1_player_6 : decode cX1_player 6 = .ok (.bipush 7, 2) := dk_16 7 (dk_at dksX1_player_0 6 rfl rfl)
theorem dX1_player_8 : decode cX1_player 8 = .ok (.invokestatic 10, 3) := dk_184 0 10 (dk_at dksX1_player_0 8 rfl rfl)
theorem dX1_player_11 : decode cX1_player 11 = .ok (.invokestatic 72, 3) := dk_184 0 72 (dk_at dksX1_player_0 11 rfl rfl)
theorem dX1_player_14 : decode cX1_player 14 = .ok (.aload_n 0, 1) := dk_42 (dk_at dksX1_player_0 14 rfl rfl)
theorem dX1_player_15 : decode cX1_player 15 = .ok (.getfield 36, 3) := dk_180 0 36 (dk_at dksX1_player_0 15 rfl rfl)
theorem dX1_player_18 : decode cX1_player 18 = .ok (.invokevirtual 80, 3) := dk_182 0 80 (dk_at dksX1_player_0 18 rfl rfl)
theorem dX1_player_21 : decode cX1_player 21 = .ok (.astore_n 3, 1) := dk_78 (dk_at dksX1_player_0 21 rfl rfl)
theorem dX1_player_22 : decode cX1_player 22 = .ok (.iload_n 2, 1) := dk_28 (dk_at dksX1_player_0 22 rfl rfl)
theorem dX1_player_23 : decode cX1_player 23 = .ok (.tableswitch 90 0 5 #[37, 47, 57, 67, 74, 84], 37) := by decide +kernel
theorem dX1_player_60 : decode cX1_player 60 = .ok (.aload_n 0, 1) := dk_42 (dk_at dksX1_player_2 0 rfl rfl)
theorem dX1_player_61 : decode cX1_player 61 = .ok (.getfield 36, 3) := dk_180 0 36 (dk_at dksX1_player_2 1 rfl rfl)
theorem dX1_player_64 : decode cX1_player 64 = .ok (.aload_n 3, 1) := dk_45 (dk_at dksX1_player_2 4 rfl rfl)
theorem dX1_player_65 : decode cX1_player 65 = .ok (.iload_n 1, 1) := dk_27 (dk_at dksX1_player_2 5 rfl rfl)
theorem dX1_player_66 : decode cX1_player 66 = .ok (.invokevirtual 190, 3) := dk_182 0 190 (dk_at dksX1_player_2 6 rfl rfl)
theorem dX1_player_69 : decode cX1_player 69 = .ok (.ireturn, 1) := dk_172 (dk_at dksX1_player_2 9 rfl rfl)
theorem dX1_player_70 : decode cX1_player 70 = .ok (.aload_n 3, 1) := dk_45 (dk_at dksX1_player_2 10 rfl rfl)
theorem dX1_player_71 : decode cX1_player 71 = .ok (.getfield 194, 3) := dk_180 0 194 (dk_at dksX1_player_2 11 rfl rfl)
theorem dX1_player_74 : decode cX1_player 74 = .ok (.iload_n 1, 1) := dk_27 (dk_at dksX1_player_2 14 rfl rfl)
theorem dX1_player_75 : decode cX1_player 75 = .ok (.laload, 1) := dk_47 (dk_at dksX1_player_2 15 rfl rfl)
theorem dX1_player_76 : decode cX1_player 76 = .ok (.invokestatic 90, 3) := dk_184 0 90 (dk_at dksX1_player_2 16 rfl rfl)
theorem dX1_player_79 : decode cX1_player 79 = .ok (.ireturn, 1) := dk_172 (dk_at dksX1_player_2 19 rfl rfl)
theorem dX1_player_80 : decode cX1_player 80 = .ok (.aload_n 3, 1) := dk_45 (dk_at dksX1_player_2 20 rfl rfl)
theorem dX1_player_81 : decode cX1_player 81 = .ok (.getfield 198, 3) := dk_180 0 198 (dk_at dksX1_player_2 21 rfl rfl)
theorem dX1_player_84 : decode cX1_player 84 = .ok (.iload_n 1, 1) := dk_27 (dk_at dksX1_player_3 0 rfl rfl)
theorem dX1_player_85 : decode cX1_player 85 = .ok (.laload, 1) := dk_47 (dk_at dksX1_player_3 1 rfl rfl)
theorem dX1_player_86 : decode cX1_player 86 = .ok (.invokestatic 90, 3) := dk_184 0 90 (dk_at dksX1_player_3 2 rfl rfl)
theorem dX1_player_89 : decode cX1_player 89 = .ok (.ireturn, 1) := dk_172 (dk_at dksX1_player_3 5 rfl rfl)
theorem dX1_player_90 : decode cX1_player 90 = .ok (.aload_n 3, 1) := dk_45 (dk_at dksX1_player_3 6 rfl rfl)
theorem dX1_player_91 : decode cX1_player 91 = .ok (.getfield 201, 3) := dk_180 0 201 (dk_at dksX1_player_3 7 rfl rfl)
theorem dX1_player_94 : decode cX1_player 94 = .ok (.iload_n 1, 1) := dk_27 (dk_at dksX1_player_3 10 rfl rfl)
theorem dX1_player_95 : decode cX1_player 95 = .ok (.iaload, 1) := dk_46 (dk_at dksX1_player_3 11 rfl rfl)
theorem dX1_player_96 : decode cX1_player 96 = .ok (.ireturn, 1) := dk_172 (dk_at dksX1_player_3 12 rfl rfl)
theorem dX1_player_97 : decode cX1_player 97 = .ok (.aload_n 0, 1) := dk_42 (dk_at dksX1_player_3 13 rfl rfl)
theorem dX1_player_98 : decode cX1_player 98 = .ok (.getfield 36, 3) := dk_180 0 36 (dk_at dksX1_player_3 14 rfl rfl)
theorem dX1_player_101 : decode cX1_player 101 = .ok (.getfield 96, 3) := dk_180 0 96 (dk_at dksX1_player_3 17 rfl rfl)
theorem dX1_player_104 : decode cX1_player 104 = .ok (.iload_n 1, 1) := dk_27 (dk_at dksX1_player_3 20 rfl rfl)
theorem dX1_player_105 : decode cX1_player 105 = .ok (.iaload, 1) := dk_46 (dk_at dksX1_player_3 21 rfl rfl)
theorem dX1_player_106 : decode cX1_player 106 = .ok (.ireturn, 1) := dk_172 (dk_at dksX1_player_3 22 rfl rfl)
theorem dX1_player_107 : decode cX1_player 107 = .ok (.aload_n 0, 1) := dk_42 (dk_at dksX1_player_3 23 rfl rfl)
theorem dX1_player_108 : decode cX1_player 108 = .ok (.iload_n 1, 1) := dk_27 (dk_at dksX1_player_4 0 rfl rfl)
theorem dX1_player_109 : decode cX1_player 109 = .ok (.invokevirtual 204, 3) := dk_182 0 204 (dk_at dksX1_player_4 1 rfl rfl)
theorem dX1_player_112 : decode cX1_player 112 = .ok (.ireturn, 1) := dk_172 (dk_at dksX1_player_4 4 rfl rfl)
theorem dX1_player_113 : decode cX1_player 113 = .ok (.aload_n 0, 1) := dk_42 (dk_at dksX1_player_4 5 rfl rfl)
theorem dX1_player_114 : decode cX1_player 114 = .ok (.iload_n 1, 1) := dk_27 (dk_at dksX1_player_4 6 rfl rfl)
theorem dX1_player_115 : decode cX1_player 115 = .ok (.iload_n 2, 1) := dk_28 (dk_at dksX1_player_4 7 rfl rfl)
theorem dX1_player_116 : decode cX1_player 116 = .ok (.bipush 7, 2) := dk_16 7 (dk_at dksX1_player_4 8 rfl rfl)
theorem dX1_player_118 : decode cX1_player 118 = .ok (.if_icmp .ne 7, 3) := dk_160 0 7 (dk_at dksX1_player_4 10 rfl rfl)
theorem dX1_player_121 : decode cX1_player 121 = .ok (.iconst 1, 1) := dk_4 (dk_at dksX1_player_4 13 rfl rfl)
theorem dX1_player_122 : decode cX1_player 122 = .ok (.goto 4, 3) := dk_167 0 4 (dk_at dksX1_player_4 14 rfl rfl)
theorem dX1_player_125 : decode cX1_player 125 = .ok (.iconst 0, 1) := dk_3 (dk_at dksX1_player_4 17 rfl rfl)
theorem dX1_player_126 : decode cX1_player 126 = .ok (.invokevirtual 207, 3) := dk_182 0 207 (dk_at dksX1_player_4 18 rfl rfl)
theorem dX1_player_129 : decode cX1_player 129 = .ok (.ireturn, 1) := dk_172 (dk_at dksX1_player_4 21 rfl rfl)
abbrev cX1_passes : ByteArray := prog_1_method_24_code
def yX1_passes : MethodName := ⟨RX1, "passes", "(I)I"⟩
def dkwX1_passes_1 : List UInt8 := [27, 182, 0, 161, 2, 160, 0, 7, 4, 167, 0, 4, 3, 96, 61, 132, 3, 1, 167, 255, 218, 28, 172]
abbrev dktX1_passes_1 : List UInt8 := dkwX1_passes_1 ++ []
def dkwX1_passes_0 : List UInt8 := [3, 61, 3, 62, 29, 42, 180, 0, 36, 182, 0, 123, 162, 0, 33, 28, 42, 180, 0, 36, 29, 182, 0, 157]
abbrev dktX1_passes_0 : List UInt8 := dkwX1_passes_0 ++ dktX1_passes_1
theorem dksX1_passes_0 : cX1_passes.data.toList.drop 0 = dktX1_passes_0 := by decide +kernel
theorem dksX1_passes_1 : cX1_passes.data.toList.drop 24 = dktX1_passes_1 := dk_seg dksX1_passes_0 24 rfl rfl
theorem dX1_passes_0 : decode cX1_passes 0 = .ok (.iconst 0, 1) := dk_3 (dk_at dksX1_passes_0 0 rfl rfl)
theorem dX1_passes_1 : decode cX1_passes 1 = .ok (.istore_n 2, 1) := dk_61 (dk_at dksX1_passes_0 1 rfl rfl)
theorem dX1_passes_2 : decode cX1_passes 2 = .ok (.iconst 0, 1) := dk_3 (dk_at dksX1_passes_0 2 rfl rfl)
theorem dX1_passes_3 : decode cX1_passes 3 = .ok (.istore_n 3, 1) := dk_62 (dk_at dksX1_passes_0 3 rfl rfl)
theorem dX1_passes_4 : decode cX1_passes 4 = .ok (.iload_n 3, 1) := dk_29 (dk_at dksX1_passes_0 4 rfl rfl)
theorem dX1_passes_5 : decode cX1_passes 5 = .ok (.aload_n 0, 1) := dk_42 (dk_at dksX1_passes_0 5 rfl rfl)
theorem dX1_passes_6 : decode cX1_passes 6 = .ok (.getfield 36, 3) := dk_180 0 36 (dk_at dksX1_passes_0 6 rfl rfl)
theorem dX1_passes_9 : decode cX1_passes 9 = .ok (.invokevirtual 123, 3) := dk_182 0 123 (dk_at dksX1_passes_0 9 rfl rfl)
theorem dX1_passes_12 : decode cX1_passes 12 = .ok (.if_icmp .ge 33, 3) := dk_162 0 33 (dk_at dksX1_passes_0 12 rfl rfl)
theorem dX1_passes_15 : decode cX1_passes 15 = .ok (.iload_n 2, 1) := dk_28 (dk_at dksX1_passes_0 15 rfl rfl)
theorem dX1_passes_16 : decode cX1_passes 16 = .ok (.aload_n 0, 1) := dk_42 (dk_at dksX1_passes_0 16 rfl rfl)
theorem dX1_passes_17 : decode cX1_passes 17 = .ok (.getfield 36, 3) := dk_180 0 36 (dk_at dksX1_passes_0 17 rfl rfl)
theorem dX1_passes_20 : decode cX1_passes 20 = .ok (.iload_n 3, 1) := dk_29 (dk_at dksX1_passes_0 20 rfl rfl)
theorem dX1_passes_21 : decode cX1_passes 21 = .ok (.invokevirtual 157, 3) := dk_182 0 157 (dk_at dksX1_passes_0 21 rfl rfl)
theorem dX1_passes_24 : decode cX1_passes 24 = .ok (.iload_n 1, 1) := dk_27 (dk_at dksX1_passes_1 0 rfl rfl)
theorem dX1_passes_25 : decode cX1_passes 25 = .ok (.invokevirtual 161, 3) := dk_182 0 161 (dk_at dksX1_passes_1 1 rfl rfl)
theorem dX1_passes_28 : decode cX1_passes 28 = .ok (.iconst (-1), 1) := dk_2 (dk_at dksX1_passes_1 4 rfl rfl)
theorem dX1_passes_29 : decode cX1_passes 29 = .ok (.if_icmp .ne 7, 3) := dk_160 0 7 (dk_at dksX1_passes_1 5 rfl rfl)
theorem dX1_passes_32 : decode cX1_passes 32 = .ok (.iconst 1, 1) := dk_4 (dk_at dksX1_passes_1 8 rfl rfl)
theorem dX1_passes_33 : decode cX1_passes 33 = .ok (.goto 4, 3) := dk_167 0 4 (dk_at dksX1_passes_1 9 rfl rfl)
theorem dX1_passes_36 : decode cX1_passes 36 = .ok (.iconst 0, 1) := dk_3 (dk_at dksX1_passes_1 12 rfl rfl)
theorem dX1_passes_37 : decode cX1_passes 37 = .ok (.iadd, 1) := dk_96 (dk_at dksX1_passes_1 13 rfl rfl)
theorem dX1_passes_38 : decode cX1_passes 38 = .ok (.istore_n 2, 1) := dk_61 (dk_at dksX1_passes_1 14 rfl rfl)
theorem dX1_passes_39 : decode cX1_passes 39 = .ok (.iinc 3 1, 3) := dk_132 3 1 (dk_at dksX1_passes_1 15 rfl rfl)
theorem dX1_passes_42 : decode cX1_passes 42 = .ok (.goto (-38), 3) := dk_167 255 218 (dk_at dksX1_passes_1 18 rfl rfl)
theorem dX1_passes_45 : decode cX1_passes 45 = .ok (.iload_n 2, 1) := dk_28 (dk_at dksX1_passes_1 21 rfl rfl)
theorem dX1_passes_46 : decode cX1_passes 46 = .ok (.ireturn, 1) := dk_172 (dk_at dksX1_passes_1 22 rfl rfl)
abbrev cX1_regions : ByteArray := prog_1_method_25_code
def yX1_regions : MethodName := ⟨RX1, "regions", "(IZ)I"⟩
def dkwX1_regions_3 : List UInt8 := [54, 6, 167, 255, 209, 28, 153, 0, 8, 21, 6, 167, 0, 5, 21, 5, 172]
abbrev dktX1_regions_3 : List UInt8 := dkwX1_regions_3 ++ []
def dkwX1_regions_2 : List UInt8 := [55, 7, 33, 22, 7, 20, 0, 183, 131, 127, 66, 132, 5, 1, 21, 6, 22, 7, 184, 0, 90, 184, 0, 185]
abbrev dktX1_regions_2 : List UInt8 := dkwX1_regions_2 ++ dktX1_regions_3
def dkwX1_regions_1 : List UInt8 := [54, 6, 33, 9, 148, 153, 0, 47, 42, 180, 0, 36, 180, 0, 50, 33, 184, 0, 176, 33, 182, 0, 179]
abbrev dktX1_regions_1 : List UInt8 := dkwX1_regions_1 ++ dktX1_regions_2
def dkwX1_regions_0 : List UInt8 := [42, 180, 0, 36, 182, 0, 80, 42, 180, 0, 36, 180, 0, 50, 27, 182, 0, 172, 66, 3, 54, 5, 3]
abbrev dktX1_regions_0 : List UInt8 := dkwX1_regions_0 ++ dktX1_regions_1
theorem dksX1_regions_0 : cX1_regions.data.toList.drop 0 = dktX1_regions_0 := by decide +kernel
theorem dksX1_regions_1 : cX1_regions.data.toList.drop 23 = dktX1_regions_1 := dk_seg dksX1_regions_0 23 rfl rfl
theorem dksX1_regions_2 : cX1_regions.data.toList.drop 46 = dktX1_regions_2 := dk_seg dksX1_regions_1 23 rfl rfl
theorem dksX1_regions_3 : cX1_regions.data.toList.drop 70 = dktX1_regions_3 := dk_seg dksX1_regions_2 24 rfl rfl
theorem dX1_regions_0 : decode cX1_regions 0 = .ok (.aload_n 0, 1) := dk_42 (dk_at dksX1_regions_0 0 rfl rfl)
theorem dX1_regions_1 : decode cX1_regions 1 = .ok (.getfield 36, 3) := dk_180 0 36 (dk_at dksX1_regions_0 1 rfl rfl)
theorem dX1_regions_4 : decode cX1_regions 4 = .ok (.invokevirtual 80, 3) := dk_182 0 80 (dk_at dksX1_regions_0 4 rfl rfl)
theorem dX1_regions_7 : decode cX1_regions 7 = .ok (.aload_n 0, 1) := dk_42 (dk_at dksX1_regions_0 7 rfl rfl)
theorem dX1_regions_8 : decode cX1_regions 8 = .ok (.getfield 36, 3) := dk_180 0 36 (dk_at dksX1_regions_0 8 rfl rfl)
theorem dX1_regions_11 : decode cX1_regions 11 = .ok (.getfield 50, 3) := dk_180 0 50 (dk_at dksX1_regions_0 11 rfl rfl)
theorem dX1_regions_14 : decode cX1_regions 14 = .ok (.iload_n 1, 1) := dk_27 (dk_at dksX1_regions_0 14 rfl rfl)
theorem dX1_regions_15 : decode cX1_regions 15 = .ok (.invokevirtual 172, 3) := dk_182 0 172 (dk_at dksX1_regions_0 15 rfl rfl)
theorem dX1_regions_18 : decode cX1_regions 18 = .ok (.lstore_n 3, 1) := dk_66 (dk_at dksX1_regions_0 18 rfl rfl)
theorem dX1_regions_19 : decode cX1_regions 19 = .ok (.iconst 0, 1) := dk_3 (dk_at dksX1_regions_0 19 rfl rfl)
theorem dX1_regions_20 : decode cX1_regions 20 = .ok (.istore 5, 2) := dk_54 5 (dk_at dksX1_regions_0 20 rfl rfl)
theorem dX1_regions_22 : decode cX1_regions 22 = .ok (.iconst 0, 1) := dk_3 (dk_at dksX1_regions_0 22 rfl rfl)
theorem dX1_regions_23 : decode cX1_regions 23 = .ok (.istore 6, 2) := dk_54 6 (dk_at dksX1_regions_1 0 rfl rfl)
theorem dX1_regions_25 : decode cX1_regions 25 = .ok (.lload_n 3, 1) := dk_33 (dk_at dksX1_regions_1 2 rfl rfl)
theorem dX1_regions_26 : decode cX1_regions 26 = .ok (.lconst 0, 1) := dk_9 (dk_at dksX1_regions_1 3 rfl rfl)
theorem dX1_regions_27 : decode cX1_regions 27 = .ok (.lcmp, 1) := dk_148 (dk_at dksX1_regions_1 4 rfl rfl)
theorem dX1_regions_28 : decode cX1_regions 28 = .ok (.ifCond .eq 47, 3) := dk_153 0 47 (dk_at dksX1_regions_1 5 rfl rfl)
theorem dX1_regions_31 : decode cX1_regions 31 = .ok (.aload_n 0, 1) := dk_42 (dk_at dksX1_regions_1 8 rfl rfl)
theorem dX1_regions_32 : decode cX1_regions 32 = .ok (.getfield 36, 3) := dk_180 0 36 (dk_at dksX1_regions_1 9 rfl rfl)
theorem dX1_regions_35 : decode cX1_regions 35 = .ok (.getfield 50, 3) := dk_180 0 50 (dk_at dksX1_regions_1 12 rfl rfl)
theorem dX1_regions_38 : decode cX1_regions 38 = .ok (.lload_n 3, 1) := dk_33 (dk_at dksX1_regions_1 15 rfl rfl)
theorem dX1_regions_39 : decode cX1_regions 39 = .ok (.invokestatic 176, 3) := dk_184 0 176 (dk_at dksX1_regions_1 16 rfl rfl)
theorem dX1_regions_42 : decode cX1_regions 42 = .ok (.lload_n 3, 1) := dk_33 (dk_at dksX1_regions_1 19 rfl rfl)
theorem dX1_regions_43 : decode cX1_regions 43 = .ok (.invokevirtual 179, 3) := dk_182 0 179 (dk_at dksX1_regions_1 20 rfl rfl)
theorem dX1_regions_46 : decode cX1_regions 46 = .ok (.lstore 7, 2) := dk_55 7 (dk_at dksX1_regions_2 0 rfl rfl)
theorem dX1_regions_48 : decode cX1_regions 48 = .ok (.lload_n 3, 1) := dk_33 (dk_at dksX1_regions_2 2 rfl rfl)
theorem dX1_regions_49 : decode cX1_regions 49 = .ok (.lload 7, 2) := dk_22 7 (dk_at dksX1_regions_2 3 rfl rfl)
theorem dX1_regions_51 : decode cX1_regions 51 = .ok (.ldc2_w 183, 3) := dk_20 0 183 (dk_at dksX1_regions_2 5 rfl rfl)
theorem dX1_regions_54 : decode cX1_regions 54 = .ok (.lxor, 1) := dk_131 (dk_at dksX1_regions_2 8 rfl rfl)
theorem dX1_regions_55 : decode cX1_regions 55 = .ok (.land, 1) := dk_127 (dk_at dksX1_regions_2 9 rfl rfl)
theorem dX1_regions_56 : decode cX1_regions 56 = .ok (.lstore_n 3, 1) := dk_66 (dk_at dksX1_regions_2 10 rfl rfl)
theorem dX1_regions_57 : decode cX1_regions 57 = .ok (.iinc 5 1, 3) := dk_132 5 1 (dk_at dksX1_regions_2 11 rfl rfl)
theorem dX1_regions_60 : decode cX1_regions 60 = .ok (.iload 6, 2) := dk_21 6 (dk_at dksX1_regions_2 14 rfl rfl)
theorem dX1_regions_62 : decode cX1_regions 62 = .ok (.lload 7, 2) := dk_22 7 (dk_at dksX1_regions_2 16 rfl rfl)
theorem dX1_regions_64 : decode cX1_regions 64 = .ok (.invokestatic 90, 3) := dk_184 0 90 (dk_at dksX1_regions_2 18 rfl rfl)
theorem dX1_regions_67 : decode cX1_regions 67 = .ok (.invokestatic 185, 3) := dk_184 0 185 (dk_at dksX1_regions_2 21 rfl rfl)
theorem dX1_regions_70 : decode cX1_regions 70 = .ok (.istore 6, 2) := dk_54 6 (dk_at dksX1_regions_3 0 rfl rfl)
theorem dX1_regions_72 : decode cX1_regions 72 = .ok (.goto (-47), 3) := dk_167 255 209 (dk_at dksX1_regions_3 2 rfl rfl)
theorem dX1_regions_75 : decode cX1_regions 75 = .ok (.iload_n 2, 1) := dk_28 (dk_at dksX1_regions_3 5 rfl rfl)
theorem dX1_regions_76 : decode cX1_regions 76 = .ok (.ifCond .eq 8, 3) := dk_153 0 8 (dk_at dksX1_regions_3 6 rfl rfl)
theorem dX1_regions_79 : decode cX1_regions 79 = .ok (.iload 6, 2) := dk_21 6 (dk_at dksX1_regions_3 9 rfl rfl)
theorem dX1_regions_81 : decode cX1_regions 81 = .ok (.goto 5, 3) := dk_167 0 5 (dk_at dksX1_regions_3 11 rfl rfl)
theorem dX1_regions_84 : decode cX1_regions 84 = .ok (.iload 5, 2) := dk_21 5 (dk_at dksX1_regions_3 14 rfl rfl)
theorem dX1_regions_86 : decode cX1_regions 86 = .ok (.ireturn, 1) := dk_172 (dk_at dksX1_regions_3 16 rfl rfl)
abbrev cX1_region : ByteArray := prog_1_method_27_code
def yX1_region : MethodName := ⟨RX1, "region", "(II)J"⟩
def dkwX1_region_2 : List UInt8 := [173]
abbrev dktX1_region_2 : List UInt8 := dkwX1_region_2 ++ []
def dkwX1_region_1 : List UInt8 := [182, 0, 172, 66, 33, 28, 184, 0, 211, 184, 0, 215, 42, 180, 0, 36, 180, 0, 50, 28, 33, 182, 0, 179]
abbrev dktX1_region_1 : List UInt8 := dkwX1_region_1 ++ dktX1_region_2
def dkwX1_region_0 : List UInt8 := [27, 184, 0, 93, 42, 28, 182, 0, 64, 42, 180, 0, 36, 182, 0, 80, 42, 180, 0, 36, 180, 0, 50, 27]
abbrev dktX1_region_0 : List UInt8 := dkwX1_region_0 ++ dktX1_region_1
theorem dksX1_region_0 : cX1_region.data.toList.drop 0 = dktX1_region_0 := by decide +kernel
theorem dksX1_region_1 : cX1_region.data.toList.drop 24 = dktX1_region_1 := dk_seg dksX1_region_0 24 rfl rfl
theorem dksX1_region_2 : cX1_region.data.toList.drop 48 = dktX1_region_2 := dk_seg dksX1_region_1 24 rfl rfl
theorem dX1_region_0 : decode cX1_region 0 = .ok (.iload_n 1, 1) := dk_27 (dk_at dksX1_region_0 0 rfl rfl)
theorem dX1_region_1 : decode cX1_region 1 = .ok (.invokestatic 93, 3) := dk_184 0 93 (dk_at dksX1_region_0 1 rfl rfl)
theorem dX1_region_4 : decode cX1_region 4 = .ok (.aload_n 0, 1) := dk_42 (dk_at dksX1_region_0 4 rfl rfl)
theorem dX1_region_5 : decode cX1_region 5 = .ok (.iload_n 2, 1) := dk_28 (dk_at dksX1_region_0 5 rfl rfl)
theorem dX1_region_6 : decode cX1_region 6 = .ok (.invokevirtual 64, 3) := dk_182 0 64 (dk_at dksX1_region_0 6 rfl rfl)
theorem dX1_region_9 : decode cX1_region 9 = .ok (.aload_n 0, 1) := dk_42 (dk_at dksX1_region_0 9 rfl rfl)
theorem dX1_region_10 : decode cX1_region 10 = .ok (.getfield 36, 3) := dk_180 0 36 (dk_at dksX1_region_0 10 rfl rfl)
theorem dX1_region_13 : decode cX1_region 13 = .ok (.invokevirtual 80, 3) := dk_182 0 80 (dk_at dksX1_region_0 13 rfl rfl)
theorem dX1_region_16 : decode cX1_region 16 = .ok (.aload_n 0, 1) := dk_42 (dk_at dksX1_region_0 16 rfl rfl)
theorem dX1_region_17 : decode cX1_region 17 = .ok (.getfield 36, 3) := dk_180 0 36 (dk_at dksX1_region_0 17 rfl rfl)
theorem dX1_region_20 : decode cX1_region 20 = .ok (.getfield 50, 3) := dk_180 0 50 (dk_at dksX1_region_0 20 rfl rfl)
theorem dX1_region_23 : decode cX1_region 23 = .ok (.iload_n 1, 1) := dk_27 (dk_at dksX1_region_0 23 rfl rfl)
theorem dX1_region_24 : decode cX1_region 24 = .ok (.invokevirtual 172, 3) := dk_182 0 172 (dk_at dksX1_region_1 0 rfl rfl)
theorem dX1_region_27 : decode cX1_region 27 = .ok (.lstore_n 3, 1) := dk_66 (dk_at dksX1_region_1 3 rfl rfl)
theorem dX1_region_28 : decode cX1_region 28 = .ok (.lload_n 3, 1) := dk_33 (dk_at dksX1_region_1 4 rfl rfl)
theorem dX1_region_29 : decode cX1_region 29 = .ok (.iload_n 2, 1) := dk_28 (dk_at dksX1_region_1 5 rfl rfl)
theorem dX1_region_30 : decode cX1_region 30 = .ok (.invokestatic 211, 3) := dk_184 0 211 (dk_at dksX1_region_1 6 rfl rfl)
theorem dX1_region_33 : decode cX1_region 33 = .ok (.invokestatic 215, 3) := dk_184 0 215 (dk_at dksX1_region_1 9 rfl rfl)
theorem dX1_region_36 : decode cX1_region 36 = .ok (.aload_n 0, 1) := dk_42 (dk_at dksX1_region_1 12 rfl rfl)
theorem dX1_region_37 : decode cX1_region 37 = .ok (.getfield 36, 3) := dk_180 0 36 (dk_at dksX1_region_1 13 rfl rfl)
theorem dX1_region_40 : decode cX1_region 40 = .ok (.getfield 50, 3) := dk_180 0 50 (dk_at dksX1_region_1 16 rfl rfl)
theorem dX1_region_43 : decode cX1_region 43 = .ok (.iload_n 2, 1) := dk_28 (dk_at dksX1_region_1 19 rfl rfl)
theorem dX1_region_44 : decode cX1_region 44 = .ok (.lload_n 3, 1) := dk_33 (dk_at dksX1_region_1 20 rfl rfl)
theorem dX1_region_45 : decode cX1_region 45 = .ok (.invokevirtual 179, 3) := dk_182 0 179 (dk_at dksX1_region_1 21 rfl rfl)
theorem dX1_region_48 : decode cX1_region 48 = .ok (.lreturn, 1) := dk_173 (dk_at dksX1_region_2 0 rfl rfl)
abbrev cX1_checkFound : ByteArray := prog_1_method_5_code
def yX1_checkFound : MethodName := ⟨RX1, "checkFound", "(Z)V"⟩
def dkwX1_checkFound_0 : List UInt8 := [26, 154, 0, 11, 187, 0, 19, 89, 183, 0, 21, 191, 177]
abbrev dktX1_checkFound_0 : List UInt8 := dkwX1_checkFound_0 ++ []
theorem dksX1_checkFound_0 : cX1_checkFound.data.toList.drop 0 = dktX1_checkFound_0 := by decide +kernel
theorem dX1_checkFound_0 : decode cX1_checkFound 0 = .ok (.iload_n 0, 1) := dk_26 (dk_at dksX1_checkFound_0 0 rfl rfl)
theorem dX1_checkFound_1 : decode cX1_checkFound 1 = .ok (.ifCond .ne 11, 3) := dk_154 0 11 (dk_at dksX1_checkFound_0 1 rfl rfl)
theorem dX1_checkFound_4 : decode cX1_checkFound 4 = .ok (.new 19, 3) := dk_187 0 19 (dk_at dksX1_checkFound_0 4 rfl rfl)
theorem dX1_checkFound_7 : decode cX1_checkFound 7 = .ok (.dup, 1) := dk_89 (dk_at dksX1_checkFound_0 7 rfl rfl)
theorem dX1_checkFound_8 : decode cX1_checkFound 8 = .ok (.invokespecial 21, 3) := dk_183 0 21 (dk_at dksX1_checkFound_0 8 rfl rfl)
theorem dX1_checkFound_11 : decode cX1_checkFound 11 = .ok (.athrow, 1) := dk_191 (dk_at dksX1_checkFound_0 11 rfl rfl)
theorem dX1_checkFound_12 : decode cX1_checkFound 12 = .ok (.return_, 1) := dk_177 (dk_at dksX1_checkFound_0 12 rfl rfl)
abbrev cX1_cells : ByteArray := prog_1_method_28_code
def yX1_cells : MethodName := ⟨RX1, "cells", "(I)J"⟩
def dkwX1_cells_1 : List UInt8 := [182, 0, 218, 173]
abbrev dktX1_cells_1 : List UInt8 := dkwX1_cells_1 ++ []
def dkwX1_cells_0 : List UInt8 := [27, 3, 8, 184, 0, 10, 184, 0, 72, 42, 180, 0, 36, 182, 0, 80, 42, 180, 0, 36, 180, 0, 50, 27]
abbrev dktX1_cells_0 : List UInt8 := dkwX1_cells_0 ++ dktX1_cells_1
theorem dksX1_cells_0 : cX1_cells.data.toList.drop 0 = dktX1_cells_0 := by decide +kernel
theorem dksX1_cells_1 : cX1_cells.data.toList.drop 24 = dktX1_cells_1 := dk_seg dksX1_cells_0 24 rfl rfl
theorem dX1_cells_0 : decode cX1_cells 0 = .ok (.iload_n 1, 1) := dk_27 (dk_at dksX1_cells_0 0 rfl rfl)
theorem dX1_cells_1 : decode cX1_cells 1 = .ok (.iconst 0, 1) := dk_3 (dk_at dksX1_cells_0 1 rfl rfl)
theorem dX1_cells_2 : decode cX1_cells 2 = .ok (.iconst 5, 1) := dk_8 (dk_at dksX1_cells_0 2 rfl rfl)
theorem dX1_cells_3 : decode cX1_cells 3 = .ok (.invokestatic 10, 3) := dk_184 0 10 (dk_at dksX1_cells_0 3 rfl rfl)
theorem dX1_cells_6 : decode cX1_cells 6 = .ok (.invokestatic 72, 3) := dk_184 0 72 (dk_at dksX1_cells_0 6 rfl rfl)
theorem dX1_cells_9 : decode cX1_cells 9 = .ok (.aload_n 0, 1) := dk_42 (dk_at dksX1_cells_0 9 rfl rfl)
theorem dX1_cells_10 : decode cX1_cells 10 = .ok (.getfield 36, 3) := dk_180 0 36 (dk_at dksX1_cells_0 10 rfl rfl)
theorem dX1_cells_13 : decode cX1_cells 13 = .ok (.invokevirtual 80, 3) := dk_182 0 80 (dk_at dksX1_cells_0 13 rfl rfl)
theorem dX1_cells_16 : decode cX1_cells 16 = .ok (.aload_n 0, 1) := dk_42 (dk_at dksX1_cells_0 16 rfl rfl)
theorem dX1_cells_17 : decode cX1_cells 17 = .ok (.getfield 36, 3) := dk_180 0 36 (dk_at dksX1_cells_0 17 rfl rfl)
theorem dX1_cells_20 : decode cX1_cells 20 = .ok (.getfield 50, 3) := dk_180 0 50 (dk_at dksX1_cells_0 20 rfl rfl)
theorem dX1_cells_23 : decode cX1_cells 23 = .ok (.iload_n 1, 1) := dk_27 (dk_at dksX1_cells_0 23 rfl rfl)
theorem dX1_cells_24 : decode cX1_cells 24 = .ok (.invokevirtual 218, 3) := dk_182 0 218 (dk_at dksX1_cells_1 0 rfl rfl)
theorem dX1_cells_27 : decode cX1_cells 27 = .ok (.lreturn, 1) := dk_173 (dk_at dksX1_cells_1 3 rfl rfl)
abbrev cX1_chain : ByteArray := prog_1_method_29_code
def yX1_chain : MethodName := ⟨RX1, "chain", "(I)J"⟩
def dkwX1_chain_2 : List UInt8 := [44, 3, 47, 167, 0, 6, 44, 4, 47, 182, 0, 179, 173]
abbrev dktX1_chain_2 : List UInt8 := dkwX1_chain_2 ++ []
def dkwX1_chain_1 : List UInt8 := [184, 0, 211, 184, 0, 215, 42, 180, 0, 36, 180, 0, 50, 27, 44, 3, 47, 27, 184, 0, 211, 153, 0, 9]
abbrev dktX1_chain_1 : List UInt8 := dkwX1_chain_1 ++ dktX1_chain_2
def dkwX1_chain_0 : List UInt8 := [42, 27, 182, 0, 64, 42, 180, 0, 36, 182, 0, 80, 180, 0, 194, 77, 44, 3, 47, 44, 4, 47, 129, 27]
abbrev dktX1_chain_0 : List UInt8 := dkwX1_chain_0 ++ dktX1_chain_1
theorem dksX1_chain_0 : cX1_chain.data.toList.drop 0 = dktX1_chain_0 := by decide +kernel
theorem dksX1_chain_1 : cX1_chain.data.toList.drop 24 = dktX1_chain_1 := dk_seg dksX1_chain_0 24 rfl rfl
theorem dksX1_chain_2 : cX1_chain.data.toList.drop 48 = dktX1_chain_2 := dk_seg dksX1_chain_1 24 rfl rfl
theorem dX1_chain_0 : decode cX1_chain 0 = .ok (.aload_n 0, 1) := dk_42 (dk_at dksX1_chain_0 0 rfl rfl)
theorem dX1_chain_1 : decode cX1_chain 1 = .ok (.iload_n 1, 1) := dk_27 (dk_at dksX1_chain_0 1 rfl rfl)
theorem dX1_chain_2 : decode cX1_chain 2 = .ok (.invokevirtual 64, 3) := dk_182 0 64 (dk_at dksX1_chain_0 2 rfl rfl)
theorem dX1_chain_5 : decode cX1_chain 5 = .ok (.aload_n 0, 1) := dk_42 (dk_at dksX1_chain_0 5 rfl rfl)
theorem dX1_chain_6 : decode cX1_chain 6 = .ok (.getfield 36, 3) := dk_180 0 36 (dk_at dksX1_chain_0 6 rfl rfl)
theorem dX1_chain_9 : decode cX1_chain 9 = .ok (.invokevirtual 80, 3) := dk_182 0 80 (dk_at dksX1_chain_0 9 rfl rfl)
theorem dX1_chain_12 : decode cX1_chain 12 = .ok (.getfield 194, 3) := dk_180 0 194 (dk_at dksX1_chain_0 12 rfl rfl)
theorem dX1_chain_15 : decode cX1_chain 15 = .ok (.astore_n 2, 1) := dk_77 (dk_at dksX1_chain_0 15 rfl rfl)
theorem dX1_chain_16 : decode cX1_chain 16 = .ok (.aload_n 2, 1) := dk_44 (dk_at dksX1_chain_0 16 rfl rfl)
theorem dX1_chain_17 : decode cX1_chain 17 = .ok (.iconst 0, 1) := dk_3 (dk_at dksX1_chain_0 17 rfl rfl)
theorem dX1_chain_18 : decode cX1_chain 18 = .ok (.laload, 1) := dk_47 (dk_at dksX1_chain_0 18 rfl rfl)
theorem dX1_chain_19 : decode cX1_chain 19 = .ok (.aload_n 2, 1) := dk_44 (dk_at dksX1_chain_0 19 rfl rfl)
theorem dX1_chain_20 : decode cX1_chain 20 = .ok (.iconst 1, 1) := dk_4 (dk_at dksX1_chain_0 20 rfl rfl)
theorem dX1_chain_21 : decode cX1_chain 21 = .ok (.laload, 1) := dk_47 (dk_at dksX1_chain_0 21 rfl rfl)
theorem dX1_chain_22 : decode cX1_chain 22 = .ok (.lor, 1) := dk_129 (dk_at dksX1_chain_0 22 rfl rfl)
theorem dX1_chain_23 : decode cX1_chain 23 = .ok (.iload_n 1, 1) := dk_27 (dk_at dksX1_chain_0 23 rfl rfl)
theorem dX1_chain_24 : decode cX1_chain 24 = .ok (.invokestatic 211, 3) := dk_184 0 211 (dk_at dksX1_chain_1 0 rfl rfl)
theorem dX1_chain_27 : decode cX1_chain 27 = .ok (.invokestatic 215, 3) := dk_184 0 215 (dk_at dksX1_chain_1 3 rfl rfl)
theorem dX1_chain_30 : decode cX1_chain 30 = .ok (.aload_n 0, 1) := dk_42 (dk_at dksX1_chain_1 6 rfl rfl)
theorem dX1_chain_31 : decode cX1_chain 31 = .ok (.getfield 36, 3) := dk_180 0 36 (dk_at dksX1_chain_1 7 rfl rfl)
theorem dX1_chain_34 : decode cX1_chain 34 = .ok (.getfield 50, 3) := dk_180 0 50 (dk_at dksX1_chain_1 10 rfl rfl)
theorem dX1_chain_37 : decode cX1_chain 37 = .ok (.iload_n 1, 1) := dk_27 (dk_at dksX1_chain_1 13 rfl rfl)
theorem dX1_chain_38 : decode cX1_chain 38 = .ok (.aload_n 2, 1) := dk_44 (dk_at dksX1_chain_1 14 rfl rfl)
theorem dX1_chain_39 : decode cX1_chain 39 = .ok (.iconst 0, 1) := dk_3 (dk_at dksX1_chain_1 15 rfl rfl)
theorem dX1_chain_40 : decode cX1_chain 40 = .ok (.laload, 1) := dk_47 (dk_at dksX1_chain_1 16 rfl rfl)
theorem dX1_chain_41 : decode cX1_chain 41 = .ok (.iload_n 1, 1) := dk_27 (dk_at dksX1_chain_1 17 rfl rfl)
theorem dX1_chain_42 : decode cX1_chain 42 = .ok (.invokestatic 211, 3) := dk_184 0 211 (dk_at dksX1_chain_1 18 rfl rfl)
theorem dX1_chain_45 : decode cX1_chain 45 = .ok (.ifCond .eq 9, 3) := dk_153 0 9 (dk_at dksX1_chain_1 21 rfl rfl)
theorem dX1_chain_48 : decode cX1_chain 48 = .ok (.aload_n 2, 1) := dk_44 (dk_at dksX1_chain_2 0 rfl rfl)
theorem dX1_chain_49 : decode cX1_chain 49 = .ok (.iconst 0, 1) := dk_3 (dk_at dksX1_chain_2 1 rfl rfl)
theorem dX1_chain_50 : decode cX1_chain 50 = .ok (.laload, 1) := dk_47 (dk_at dksX1_chain_2 2 rfl rfl)
theorem dX1_chain_51 : decode cX1_chain 51 = .ok (.goto 6, 3) := dk_167 0 6 (dk_at dksX1_chain_2 3 rfl rfl)
theorem dX1_chain_54 : decode cX1_chain 54 = .ok (.aload_n 2, 1) := dk_44 (dk_at dksX1_chain_2 6 rfl rfl)
theorem dX1_chain_55 : decode cX1_chain 55 = .ok (.iconst 1, 1) := dk_4 (dk_at dksX1_chain_2 7 rfl rfl)
theorem dX1_chain_56 : decode cX1_chain 56 = .ok (.laload, 1) := dk_47 (dk_at dksX1_chain_2 8 rfl rfl)
theorem dX1_chain_57 : decode cX1_chain 57 = .ok (.invokevirtual 179, 3) := dk_182 0 179 (dk_at dksX1_chain_2 9 rfl rfl)
theorem dX1_chain_60 : decode cX1_chain 60 = .ok (.lreturn, 1) := dk_173 (dk_at dksX1_chain_2 12 rfl rfl)
abbrev cX1_stonesToEnclose : ByteArray := prog_1_method_30_code
def yX1_stonesToEnclose : MethodName := ⟨RX1, "stonesToEnclose", "(II)I"⟩
def dkwX1_stonesToEnclose_2 : List UInt8 := [159, 0, 7, 4, 167, 0, 4, 3, 184, 0, 215, 29, 172]
abbrev dktX1_stonesToEnclose_2 : List UInt8 := dkwX1_stonesToEnclose_2 ++ []
def dkwX1_stonesToEnclose_1 : List UInt8 := [182, 0, 172, 28, 184, 0, 211, 184, 0, 215, 42, 180, 0, 36, 27, 28, 182, 0, 220, 62, 29, 2]
abbrev dktX1_stonesToEnclose_1 : List UInt8 := dkwX1_stonesToEnclose_1 ++ dktX1_stonesToEnclose_2
def dkwX1_stonesToEnclose_0 : List UInt8 := [27, 184, 0, 93, 42, 28, 182, 0, 64, 42, 180, 0, 36, 182, 0, 80, 42, 180, 0, 36, 180, 0, 50, 27]
abbrev dktX1_stonesToEnclose_0 : List UInt8 := dkwX1_stonesToEnclose_0 ++ dktX1_stonesToEnclose_1
theorem dksX1_stonesToEnclose_0 : cX1_stonesToEnclose.data.toList.drop 0 = dktX1_stonesToEnclose_0 := by decide +kernel
theorem dksX1_stonesToEnclose_1 : cX1_stonesToEnclose.data.toList.drop 24 = dktX1_stonesToEnclose_1 := dk_seg dksX1_stonesToEnclose_0 24 rfl rfl
theorem dksX1_stonesToEnclose_2 : cX1_stonesToEnclose.data.toList.drop 46 = dktX1_stonesToEnclose_2 := dk_seg dksX1_stonesToEnclose_1 22 rfl rfl
theorem dX1_stonesToEnclose_0 : decode cX1_stonesToEnclose 0 = .ok (.iload_n 1, 1) := dk_27 (dk_at dksX1_stonesToEnclose_0 0 rfl rfl)
theorem dX1_stonesToEnclose_1 : decode cX1_stonesToEnclose 1 = .ok (.invokestatic 93, 3) := dk_184 0 93 (dk_at dksX1_stonesToEnclose_0 1 rfl rfl)
theorem dX1_stonesToEnclose_4 : decode cX1_stonesToEnclose 4 = .ok (.aload_n 0, 1) := dk_42 (dk_at dksX1_stonesToEnclose_0 4 rfl rfl)
theorem dX1_stonesToEnclose_5 : decode cX1_stonesToEnclose 5 = .ok (.iload_n 2, 1) := dk_28 (dk_at dksX1_stonesToEnclose_0 5 rfl rfl)
theorem dX1_stonesToEnclose_6 : decode cX1_stonesToEnclose 6 = .ok (.invokevirtual 64, 3) := dk_182 0 64 (dk_at dksX1_stonesToEnclose_0 6 rfl rfl)
theorem dX1_stonesToEnclose_9 : decode cX1_stonesToEnclose 9 = .ok (.aload_n 0, 1) := dk_42 (dk_at dksX1_stonesToEnclose_0 9 rfl rfl)
theorem dX1_stonesToEnclose_10 : decode cX1_stonesToEnclose 10 = .ok (.getfield 36, 3) := dk_180 0 36 (dk_at dksX1_stonesToEnclose_0 10 rfl rfl)
theorem dX1_stonesToEnclose_13 : decode cX1_stonesToEnclose 13 = .ok (.invokevirtual 80, 3) := dk_182 0 80 (dk_at dksX1_stonesToEnclose_0 13 rfl rfl)
theorem dX1_stonesToEnclose_16 : decode cX1_stonesToEnclose 16 = .ok (.aload_n 0, 1) := dk_42 (dk_at dksX1_stonesToEnclose_0 16 rfl rfl)
theorem dX1_stonesToEnclose_17 : decode cX1_stonesToEnclose 17 = .ok (.getfield 36, 3) := dk_180 0 36 (dk_at dksX1_stonesToEnclose_0 17 rfl rfl)
theorem dX1_stonesToEnclose_20 : decode cX1_stonesToEnclose 20 = .ok (.getfield 50, 3) := dk_180 0 50 (dk_at dksX1_stonesToEnclose_0 20 rfl rfl)
theorem dX1_stonesToEnclose_23 : decode cX1_stonesToEnclose 23 = .ok (.iload_n 1, 1) := dk_27 (dk_at dksX1_stonesToEnclose_0 23 rfl rfl)
theorem dX1_stonesToEnclose_24 : decode cX1_stonesToEnclose 24 = .ok (.invokevirtual 172, 3) := dk_182 0 172 (dk_at dksX1_stonesToEnclose_1 0 rfl rfl)
theorem dX1_stonesToEnclose_27 : decode cX1_stonesToEnclose 27 = .ok (.iload_n 2, 1) := dk_28 (dk_at dksX1_stonesToEnclose_1 3 rfl rfl)
theorem dX1_stonesToEnclose_28 : decode cX1_stonesToEnclose 28 = .ok (.invokestatic 211, 3) := dk_184 0 211 (dk_at dksX1_stonesToEnclose_1 4 rfl rfl)
theorem dX1_stonesToEnclose_31 : decode cX1_stonesToEnclose 31 = .ok (.invokestatic 215, 3) := dk_184 0 215 (dk_at dksX1_stonesToEnclose_1 7 rfl rfl)
theorem dX1_stonesToEnclose_34 : decode cX1_stonesToEnclose 34 = .ok (.aload_n 0, 1) := dk_42 (dk_at dksX1_stonesToEnclose_1 10 rfl rfl)
theorem dX1_stonesToEnclose_35 : decode cX1_stonesToEnclose 35 = .ok (.getfield 36, 3) := dk_180 0 36 (dk_at dksX1_stonesToEnclose_1 11 rfl rfl)
theorem dX1_stonesToEnclose_38 : decode cX1_stonesToEnclose 38 = .ok (.iload_n 1, 1) := dk_27 (dk_at dksX1_stonesToEnclose_1 14 rfl rfl)
theorem dX1_stonesToEnclose_39 : decode cX1_stonesToEnclose 39 = .ok (.iload_n 2, 1) := dk_28 (dk_at dksX1_stonesToEnclose_1 15 rfl rfl)
theorem dX1_stonesToEnclose_40 : decode cX1_stonesToEnclose 40 = .ok (.invokevirtual 220, 3) := dk_182 0 220 (dk_at dksX1_stonesToEnclose_1 16 rfl rfl)
theorem dX1_stonesToEnclose_43 : decode cX1_stonesToEnclose 43 = .ok (.istore_n 3, 1) := dk_62 (dk_at dksX1_stonesToEnclose_1 19 rfl rfl)
theorem dX1_stonesToEnclose_44 : decode cX1_stonesToEnclose 44 = .ok (.iload_n 3, 1) := dk_29 (dk_at dksX1_stonesToEnclose_1 20 rfl rfl)
theorem dX1_stonesToEnclose_45 : decode cX1_stonesToEnclose 45 = .ok (.iconst (-1), 1) := dk_2 (dk_at dksX1_stonesToEnclose_1 21 rfl rfl)
theorem dX1_stonesToEnclose_46 : decode cX1_stonesToEnclose 46 = .ok (.if_icmp .eq 7, 3) := dk_159 0 7 (dk_at dksX1_stonesToEnclose_2 0 rfl rfl)
theorem dX1_stonesToEnclose_49 : decode cX1_stonesToEnclose 49 = .ok (.iconst 1, 1) := dk_4 (dk_at dksX1_stonesToEnclose_2 3 rfl rfl)
theorem dX1_stonesToEnclose_50 : decode cX1_stonesToEnclose 50 = .ok (.goto 4, 3) := dk_167 0 4 (dk_at dksX1_stonesToEnclose_2 4 rfl rfl)
theorem dX1_stonesToEnclose_53 : decode cX1_stonesToEnclose 53 = .ok (.iconst 0, 1) := dk_3 (dk_at dksX1_stonesToEnclose_2 7 rfl rfl)
theorem dX1_stonesToEnclose_54 : decode cX1_stonesToEnclose 54 = .ok (.invokestatic 215, 3) := dk_184 0 215 (dk_at dksX1_stonesToEnclose_2 8 rfl rfl)
theorem dX1_stonesToEnclose_57 : decode cX1_stonesToEnclose 57 = .ok (.iload_n 3, 1) := dk_29 (dk_at dksX1_stonesToEnclose_2 11 rfl rfl)
theorem dX1_stonesToEnclose_58 : decode cX1_stonesToEnclose 58 = .ok (.ireturn, 1) := dk_172 (dk_at dksX1_stonesToEnclose_2 12 rfl rfl)
abbrev cX1_share : ByteArray := prog_1_method_31_code
def yX1_share : MethodName := ⟨RX1, "share", "(I)D"⟩
def dkwX1_share_1 : List UInt8 := [180, 0, 50, 182, 0, 54, 135, 111, 175]
abbrev dktX1_share_1 : List UInt8 := dkwX1_share_1 ++ []
def dkwX1_share_0 : List UInt8 := [27, 184, 0, 93, 42, 180, 0, 36, 182, 0, 80, 27, 182, 0, 223, 184, 0, 90, 135, 42, 180, 0, 36]
abbrev dktX1_share_0 : List UInt8 := dkwX1_share_0 ++ dktX1_share_1
theorem dksX1_share_0 : cX1_share.data.toList.drop 0 = dktX1_share_0 := by decide +kernel
theorem dksX1_share_1 : cX1_share.data.toList.drop 23 = dktX1_share_1 := dk_seg dksX1_share_0 23 rfl rfl
theorem dX1_share_0 : decode cX1_share 0 = .ok (.iload_n 1, 1) := dk_27 (dk_at dksX1_share_0 0 rfl rfl)
theorem dX1_share_1 : decode cX1_share 1 = .ok (.invokestatic 93, 3) := dk_184 0 93 (dk_at dksX1_share_0 1 rfl rfl)
theorem dX1_share_4 : decode cX1_share 4 = .ok (.aload_n 0, 1) := dk_42 (dk_at dksX1_share_0 4 rfl rfl)
theorem dX1_share_5 : decode cX1_share 5 = .ok (.getfield 36, 3) := dk_180 0 36 (dk_at dksX1_share_0 5 rfl rfl)
theorem dX1_share_8 : decode cX1_share 8 = .ok (.invokevirtual 80, 3) := dk_182 0 80 (dk_at dksX1_share_0 8 rfl rfl)
theorem dX1_share_11 : decode cX1_share 11 = .ok (.iload_n 1, 1) := dk_27 (dk_at dksX1_share_0 11 rfl rfl)
theorem dX1_share_12 : decode cX1_share 12 = .ok (.invokevirtual 223, 3) := dk_182 0 223 (dk_at dksX1_share_0 12 rfl rfl)
theorem dX1_share_15 : decode cX1_share 15 = .ok (.invokestatic 90, 3) := dk_184 0 90 (dk_at dksX1_share_0 15 rfl rfl)
theorem dX1_share_18 : decode cX1_share 18 = .ok (.i2d, 1) := dk_135 (dk_at dksX1_share_0 18 rfl rfl)
theorem dX1_share_19 : decode cX1_share 19 = .ok (.aload_n 0, 1) := dk_42 (dk_at dksX1_share_0 19 rfl rfl)
theorem dX1_share_20 : decode cX1_share 20 = .ok (.getfield 36, 3) := dk_180 0 36 (dk_at dksX1_share_0 20 rfl rfl)
theorem dX1_share_23 : decode cX1_share 23 = .ok (.getfield 50, 3) := dk_180 0 50 (dk_at dksX1_share_1 0 rfl rfl)
theorem dX1_share_26 : decode cX1_share 26 = .ok (.invokevirtual 54, 3) := dk_182 0 54 (dk_at dksX1_share_1 3 rfl rfl)
theorem dX1_share_29 : decode cX1_share 29 = .ok (.i2d, 1) := dk_135 (dk_at dksX1_share_1 6 rfl rfl)
theorem dX1_share_30 : decode cX1_share 30 = .ok (.ddiv, 1) := dk_111 (dk_at dksX1_share_1 7 rfl rfl)
theorem dX1_share_31 : decode cX1_share 31 = .ok (.dreturn, 1) := dk_175 (dk_at dksX1_share_1 8 rfl rfl)
abbrev cX1_round : ByteArray := prog_1_method_32_code
def yX1_round : MethodName := ⟨RX1, "round", "(II)I"⟩
def dkwX1_round_1 : List UInt8 := [180, 0, 36, 27, 182, 0, 157, 28, 182, 0, 161, 172]
abbrev dktX1_round_1 : List UInt8 := dkwX1_round_1 ++ []
def dkwX1_round_0 : List UInt8 := [27, 42, 180, 0, 36, 182, 0, 123, 184, 0, 60, 28, 3, 16, 6, 184, 0, 10, 184, 0, 72, 42]
abbrev dktX1_round_0 : List UInt8 := dkwX1_round_0 ++ dktX1_round_1
theorem dksX1_round_0 : cX1_round.data.toList.drop 0 = dktX1_round_0 := by decide +kernel
theorem dksX1_round_1 : cX1_round.data.toList.drop 22 = dktX1_round_1 := dk_seg dksX1_round_0 22 rfl rfl
theorem dX1_round_0 : decode cX1_round 0 = .ok (.iload_n 1, 1) := dk_27 (dk_at dksX1_round_0 0 rfl rfl)
theorem dX1_round_1 : decode cX1_round 1 = .ok (.aload_n 0, 1) := dk_42 (dk_at dksX1_round_0 1 rfl rfl)
theorem dX1_round_2 : decode cX1_round 2 = .ok (.getfield 36, 3) := dk_180 0 36 (dk_at dksX1_round_0 2 rfl rfl)
theorem dX1_round_5 : decode cX1_round 5 = .ok (.invokevirtual 123, 3) := dk_182 0 123 (dk_at dksX1_round_0 5 rfl rfl)
theorem dX1_round_8 : decode cX1_round 8 = .ok (.invokestatic 60, 3) := dk_184 0 60 (dk_at dksX1_round_0 8 rfl rfl)
theorem dX1_round_11 : decode cX1_round 11 = .ok (.iload_n 2, 1) := dk_28 (dk_at dksX1_round_0 11 rfl rfl)
theorem dX1_round_12 : decode cX1_round 12 = .ok (.iconst 0, 1) := dk_3 (dk_at dksX1_round_0 12 rfl rfl)
theorem dX1_round_13 : decode cX1_round 13 = .ok (.bipush 6, 2) := dk_16 6 (dk_at dksX1_round_0 13 rfl rfl)
theorem dX1_round_15 : decode cX1_round 15 = .ok (.invokestatic 10, 3) := dk_184 0 10 (dk_at dksX1_round_0 15 rfl rfl)
theorem dX1_round_18 : decode cX1_round 18 = .ok (.invokestatic 72, 3) := dk_184 0 72 (dk_at dksX1_round_0 18 rfl rfl)
theorem dX1_round_21 : decode cX1_round 21 = .ok (.aload_n 0, 1) := dk_42 (dk_at dksX1_round_0 21 rfl rfl)
theorem dX1_round_22 : decode cX1_round 22 = .ok (.getfield 36, 3) := dk_180 0 36 (dk_at dksX1_round_1 0 rfl rfl)
theorem dX1_round_25 : decode cX1_round 25 = .ok (.iload_n 1, 1) := dk_27 (dk_at dksX1_round_1 3 rfl rfl)
theorem dX1_round_26 : decode cX1_round 26 = .ok (.invokevirtual 157, 3) := dk_182 0 157 (dk_at dksX1_round_1 4 rfl rfl)
theorem dX1_round_29 : decode cX1_round 29 = .ok (.iload_n 2, 1) := dk_28 (dk_at dksX1_round_1 7 rfl rfl)
theorem dX1_round_30 : decode cX1_round 30 = .ok (.invokevirtual 161, 3) := dk_182 0 161 (dk_at dksX1_round_1 8 rfl rfl)
theorem dX1_round_33 : decode cX1_round 33 = .ok (.ireturn, 1) := dk_172 (dk_at dksX1_round_1 11 rfl rfl)
abbrev cX1_turningPoint : ByteArray := prog_1_method_34_code
def yX1_turningPoint : MethodName := ⟨RX1, "turningPoint", "()I"⟩
def dkwX1_turningPoint_3 : List UInt8 := [132, 3, 1, 167, 255, 205, 27, 172]
abbrev dktX1_turningPoint_3 : List UInt8 := dkwX1_turningPoint_3 ++ []
def dkwX1_turningPoint_2 : List UInt8 := [184, 0, 233, 54, 4, 21, 4, 28, 164, 0, 7, 29, 167, 0, 4, 27, 60, 28, 21, 4, 184, 0, 185, 61]
abbrev dktX1_turningPoint_2 : List UInt8 := dkwX1_turningPoint_2 ++ dktX1_turningPoint_3
def dkwX1_turningPoint_1 : List UInt8 := [29, 42, 180, 0, 36, 182, 0, 123, 162, 0, 46, 42, 29, 182, 0, 230, 42, 29, 4, 100, 182, 0, 230, 100]
abbrev dktX1_turningPoint_1 : List UInt8 := dkwX1_turningPoint_1 ++ dktX1_turningPoint_2
def dkwX1_turningPoint_0 : List UInt8 := [42, 180, 0, 36, 182, 0, 123, 158, 0, 7, 4, 167, 0, 4, 3, 184, 0, 215, 3, 60, 2, 61, 3, 62]
abbrev dktX1_turningPoint_0 : List UInt8 := dkwX1_turningPoint_0 ++ dktX1_turningPoint_1
theorem dksX1_turningPoint_0 : cX1_turningPoint.data.toList.drop 0 = dktX1_turningPoint_0 := by decide +kernel
theorem dksX1_turningPoint_1 : cX1_turningPoint.data.toList.drop 24 = dktX1_turningPoint_1 := dk_seg dksX1_turningPoint_0 24 rfl rfl
theorem dksX1_turningPoint_2 : cX1_turningPoint.data.toList.drop 48 = dktX1_turningPoint_2 := dk_seg dksX1_turningPoint_1 24 rfl rfl
theorem dksX1_turningPoint_3 : cX1_turningPoint.data.toList.drop 72 = dktX1_turningPoint_3 := dk_seg dksX1_turningPoint_2 24 rfl rfl
theorem dX1_turningPoint_0 : decode cX1_turningPoint 0 = .ok (.aload_n 0, 1) := dk_42 (dk_at dksX1_turningPoint_0 0 rfl rfl)
theorem dX1_turningPoint_1 : decode cX1_turningPoint 1 = .ok (.getfield 36, 3) := dk_180 0 36 (dk_at dksX1_turningPoint_0 1 rfl rfl)
theorem dX1_turningPoint_4 : decode cX1_turningPoint 4 = .ok (.invokevirtual 123, 3) := dk_182 0 123 (dk_at dksX1_turningPoint_0 4 rfl rfl)
theorem dX1_turningPoint_7 : decode cX1_turningPoint 7 = .ok (.ifCond .le 7, 3) := dk_158 0 7 (dk_at dksX1_turningPoint_0 7 rfl rfl)
theorem dX1_turningPoint_10 : decode cX1_turningPoint 10 = .ok (.iconst 1, 1) := dk_4 (dk_at dksX1_turningPoint_0 10 rfl rfl)
theorem dX1_turningPoint_11 : decode cX1_turningPoint 11 = .ok (.goto 4, 3) := dk_167 0 4 (dk_at dksX1_turningPoint_0 11 rfl rfl)
theorem dX1_turningPoint_14 : decode cX1_turningPoint 14 = .ok (.iconst 0, 1) := dk_3 (dk_at dksX1_turningPoint_0 14 rfl rfl)
theorem dX1_turningPoint_15 : decode cX1_turningPoint 15 = .ok (.invokestatic 215, 3) := dk_184 0 215 (dk_at dksX1_turningPoint_0 15 rfl rfl)
theorem dX1_turningPoint_18 : decode cX1_turningPoint 18 = .ok (.iconst 0, 1) := dk_3 (dk_at dksX1_turningPoint_0 18 rfl rfl)
theorem dX1_turningPoint_19 : decode cX1_turningPoint 19 = .ok (.istore_n 1, 1) := dk_60 (dk_at dksX1_turningPoint_0 19 rfl rfl)
theorem dX1_turningPoint_20 : decode cX1_turningPoint 20 = .ok (.iconst (-1), 1) := dk_2 (dk_at dksX1_turningPoint_0 20 rfl rfl)
theorem dX1_turningPoint_21 : decode cX1_turningPoint 21 = .ok (.istore_n 2, 1) := dk_61 (dk_at dksX1_turningPoint_0 21 rfl rfl)
theorem dX1_turningPoint_22 : decode cX1_turningPoint 22 = .ok (.iconst 0, 1) := dk_3 (dk_at dksX1_turningPoint_0 22 rfl rfl)
theorem dX1_turningPoint_23 : decode cX1_turningPoint 23 = .ok (.istore_n 3, 1) := dk_62 (dk_at dksX1_turningPoint_0 23 rfl rfl)
theorem dX1_turningPoint_24 : decode cX1_turningPoint 24 = .ok (.iload_n 3, 1) := dk_29 (dk_at dksX1_turningPoint_1 0 rfl rfl)
theorem dX1_turningPoint_25 : decode cX1_turningPoint 25 = .ok (.aload_n 0, 1) := dk_42 (dk_at dksX1_turningPoint_1 1 rfl rfl)
theorem dX1_turningPoint_26 : decode cX1_turningPoint 26 = .ok (.getfield 36, 3) := dk_180 0 36 (dk_at dksX1_turningPoint_1 2 rfl rfl)
theorem dX1_turningPoint_29 : decode cX1_turningPoint 29 = .ok (.invokevirtual 123, 3) := dk_182 0 123 (dk_at dksX1_turningPoint_1 5 rfl rfl)
theorem dX1_turningPoint_32 : decode cX1_turningPoint 32 = .ok (.if_icmp .ge 46, 3) := dk_162 0 46 (dk_at dksX1_turningPoint_1 8 rfl rfl)
theorem dX1_turningPoint_35 : decode cX1_turningPoint 35 = .ok (.aload_n 0, 1) := dk_42 (dk_at dksX1_turningPoint_1 11 rfl rfl)
theorem dX1_turningPoint_36 : decode cX1_turningPoint 36 = .ok (.iload_n 3, 1) := dk_29 (dk_at dksX1_turningPoint_1 12 rfl rfl)
theorem dX1_turningPoint_37 : decode cX1_turningPoint 37 = .ok (.invokevirtual 230, 3) := dk_182 0 230 (dk_at dksX1_turningPoint_1 13 rfl rfl)
theorem dX1_turningPoint_40 : decode cX1_turningPoint 40 = .ok (.aload_n 0, 1) := dk_42 (dk_at dksX1_turningPoint_1 16 rfl rfl)
theorem dX1_turningPoint_41 : decode cX1_turningPoint 41 = .ok (.iload_n 3, 1) := dk_29 (dk_at dksX1_turningPoint_1 17 rfl rfl)
theorem dX1_turningPoint_42 : decode cX1_turningPoint 42 = .ok (.iconst 1, 1) := dk_4 (dk_at dksX1_turningPoint_1 18 rfl rfl)
theorem dX1_turningPoint_43 : decode cX1_turningPoint 43 = .ok (.isub, 1) := dk_100 (dk_at dksX1_turningPoint_1 19 rfl rfl)
theorem dX1_turningPoint_44 : decode cX1_turningPoint 44 = .ok (.invokevirtual 230, 3) := dk_182 0 230 (dk_at dksX1_turningPoint_1 20 rfl rfl)
theorem dX1_turningPoint_47 : decode cX1_turningPoint 47 = .ok (.isub, 1) := dk_100 (dk_at dksX1_turningPoint_1 23 rfl rfl)
theorem dX1_turningPoint_48 : decode cX1_turningPoint 48 = .ok (.invokestatic 233, 3) := dk_184 0 233 (dk_at dksX1_turningPoint_2 0 rfl rfl)
theorem dX1_turningPoint_51 : decode cX1_turningPoint 51 = .ok (.istore 4, 2) := dk_54 4 (dk_at dksX1_turningPoint_2 3 rfl rfl)
theorem dX1_turningPoint_53 : decode cX1_turningPoint 53 = .ok (.iload 4, 2) := dk_21 4 (dk_at dksX1_turningPoint_2 5 rfl rfl)
theorem dX1_turningPoint_55 : decode cX1_turningPoint 55 = .ok (.iload_n 2, 1) := dk_28 (dk_at dksX1_turningPoint_2 7 rfl rfl)
theorem dX1_turningPoint_56 : decode cX1_turningPoint 56 = .ok (.if_icmp .le 7, 3) := dk_164 0 7 (dk_at dksX1_turningPoint_2 8 rfl rfl)
theorem dX1_turningPoint_59 : decode cX1_turningPoint 59 = .ok (.iload_n 3, 1) := dk_29 (dk_at dksX1_turningPoint_2 11 rfl rfl)
theorem dX1_turningPoint_60 : decode cX1_turningPoint 60 = .ok (.goto 4, 3) := dk_167 0 4 (dk_at dksX1_turningPoint_2 12 rfl rfl)
theorem dX1_turningPoint_63 : decode cX1_turningPoint 63 = .ok (.iload_n 1, 1) := dk_27 (dk_at dksX1_turningPoint_2 15 rfl rfl)
theorem dX1_turningPoint_64 : decode cX1_turningPoint 64 = .ok (.istore_n 1, 1) := dk_60 (dk_at dksX1_turningPoint_2 16 rfl rfl)
theorem dX1_turningPoint_65 : decode cX1_turningPoint 65 = .ok (.iload_n 2, 1) := dk_28 (dk_at dksX1_turningPoint_2 17 rfl rfl)
theorem dX1_turningPoint_66 : decode cX1_turningPoint 66 = .ok (.iload 4, 2) := dk_21 4 (dk_at dksX1_turningPoint_2 18 rfl rfl)
theorem dX1_turningPoint_68 : decode cX1_turningPoint 68 = .ok (.invokestatic 185, 3) := dk_184 0 185 (dk_at dksX1_turningPoint_2 20 rfl rfl)
theorem dX1_turningPoint_71 : decode cX1_turningPoint 71 = .ok (.istore_n 2, 1) := dk_61 (dk_at dksX1_turningPoint_2 23 rfl rfl)
theorem dX1_turningPoint_72 : decode cX1_turningPoint 72 = .ok (.iinc 3 1, 3) := dk_132 3 1 (dk_at dksX1_turningPoint_3 0 rfl rfl)
theorem dX1_turningPoint_75 : decode cX1_turningPoint 75 = .ok (.goto (-51), 3) := dk_167 255 205 (dk_at dksX1_turningPoint_3 3 rfl rfl)
theorem dX1_turningPoint_78 : decode cX1_turningPoint 78 = .ok (.iload_n 1, 1) := dk_27 (dk_at dksX1_turningPoint_3 6 rfl rfl)
theorem dX1_turningPoint_79 : decode cX1_turningPoint 79 = .ok (.ireturn, 1) := dk_172 (dk_at dksX1_turningPoint_3 7 rfl rfl)
abbrev cX1_difference : ByteArray := prog_1_method_33_code
def yX1_difference : MethodName := ⟨RX1, "difference", "(I)I"⟩
def dkwX1_difference_2 : List UInt8 := [180, 0, 227, 4, 46, 100, 172]
abbrev dktX1_difference_2 : List UInt8 := dkwX1_difference_2 ++ []
def dkwX1_difference_1 : List UInt8 := [172, 42, 180, 0, 36, 27, 182, 0, 157, 180, 0, 227, 3, 46, 42, 180, 0, 36, 27, 182, 0, 157]
abbrev dktX1_difference_1 : List UInt8 := dkwX1_difference_1 ++ dktX1_difference_2
def dkwX1_difference_0 : List UInt8 := [27, 2, 160, 0, 23, 42, 180, 0, 36, 180, 0, 96, 3, 46, 42, 180, 0, 36, 180, 0, 96, 4, 46, 100]
abbrev dktX1_difference_0 : List UInt8 := dkwX1_difference_0 ++ dktX1_difference_1
theorem dksX1_difference_0 : cX1_difference.data.toList.drop 0 = dktX1_difference_0 := by decide +kernel
theorem dksX1_difference_1 : cX1_difference.data.toList.drop 24 = dktX1_difference_1 := dk_seg dksX1_difference_0 24 rfl rfl
theorem dksX1_difference_2 : cX1_difference.data.toList.drop 46 = dktX1_difference_2 := dk_seg dksX1_difference_1 22 rfl rfl
theorem dX1_difference_0 : decode cX1_difference 0 = .ok (.iload_n 1, 1) := dk_27 (dk_at dksX1_difference_0 0 rfl rfl)
theorem dX1_difference_1 : decode cX1_difference 1 = .ok (.iconst (-1), 1) := dk_2 (dk_at dksX1_difference_0 1 rfl rfl)
theorem dX1_difference_2 : decode cX1_difference 2 = .ok (.if_icmp .ne 23, 3) := dk_160 0 23 (dk_at dksX1_difference_0 2 rfl rfl)
theorem dX1_difference_5 : decode cX1_difference 5 = .ok (.aload_n 0, 1) := dk_42 (dk_at dksX1_difference_0 5 rfl rfl)
theorem dX1_difference_6 : decode cX1_difference 6 = .ok (.getfield 36, 3) := dk_180 0 36 (dk_at dksX1_difference_0 6 rfl rfl)
theorem dX1_difference_9 : decode cX1_difference 9 = .ok (.getfield 96, 3) := dk_180 0 96 (dk_at dksX1_difference_0 9 rfl rfl)
theorem dX1_difference_12 : decode cX1_difference 12 = .ok (.iconst 0, 1) := dk_3 (dk_at dksX1_difference_0 12 rfl rfl)
theorem dX1_difference_13 : decode cX1_difference 13 = .ok (.iaload, 1) := dk_46 (dk_at dksX1_difference_0 13 rfl rfl)
theorem dX1_difference_14 : decode cX1_difference 14 = .ok (.aload_n 0, 1) := dk_42 (dk_at dksX1_difference_0 14 rfl rfl)
theorem dX1_difference_15 : decode cX1_difference 15 = .ok (.getfield 36, 3) := dk_180 0 36 (dk_at dksX1_difference_0 15 rfl rfl)
theorem dX1_difference_18 : decode cX1_difference 18 = .ok (.getfield 96, 3) := dk_180 0 96 (dk_at dksX1_difference_0 18 rfl rfl)
theorem dX1_difference_21 : decode cX1_difference 21 = .ok (.iconst 1, 1) := dk_4 (dk_at dksX1_difference_0 21 rfl rfl)
theorem dX1_difference_22 : decode cX1_difference 22 = .ok (.iaload, 1) := dk_46 (dk_at dksX1_difference_0 22 rfl rfl)
theorem dX1_difference_23 : decode cX1_difference 23 = .ok (.isub, 1) := dk_100 (dk_at dksX1_difference_0 23 rfl rfl)
theorem dX1_difference_24 : decode cX1_difference 24 = .ok (.ireturn, 1) := dk_172 (dk_at dksX1_difference_1 0 rfl rfl)
theorem dX1_difference_25 : decode cX1_difference 25 = .ok (.aload_n 0, 1) := dk_42 (dk_at dksX1_difference_1 1 rfl rfl)
theorem dX1_difference_26 : decode cX1_difference 26 = .ok (.getfield 36, 3) := dk_180 0 36 (dk_at dksX1_difference_1 2 rfl rfl)
theorem dX1_difference_29 : decode cX1_difference 29 = .ok (.iload_n 1, 1) := dk_27 (dk_at dksX1_difference_1 5 rfl rfl)
theorem dX1_difference_30 : decode cX1_difference 30 = .ok (.invokevirtual 157, 3) := dk_182 0 157 (dk_at dksX1_difference_1 6 rfl rfl)
theorem dX1_difference_33 : decode cX1_difference 33 = .ok (.getfield 227, 3) := dk_180 0 227 (dk_at dksX1_difference_1 9 rfl rfl)
theorem dX1_difference_36 : decode cX1_difference 36 = .ok (.iconst 0, 1) := dk_3 (dk_at dksX1_difference_1 12 rfl rfl)
theorem dX1_difference_37 : decode cX1_difference 37 = .ok (.iaload, 1) := dk_46 (dk_at dksX1_difference_1 13 rfl rfl)
theorem dX1_difference_38 : decode cX1_difference 38 = .ok (.aload_n 0, 1) := dk_42 (dk_at dksX1_difference_1 14 rfl rfl)
theorem dX1_difference_39 : decode cX1_difference 39 = .ok (.getfield 36, 3) := dk_180 0 36 (dk_at dksX1_difference_1 15 rfl rfl)
theorem dX1_difference_42 : decode cX1_difference 42 = .ok (.iload_n 1, 1) := dk_27 (dk_at dksX1_difference_1 18 rfl rfl)
theorem dX1_difference_43 : decode cX1_difference 43 = .ok (.invokevirtual 157, 3) := dk_182 0 157 (dk_at dksX1_difference_1 19 rfl rfl)
theorem dX1_difference_46 : decode cX1_difference 46 = .ok (.getfield 227, 3) := dk_180 0 227 (dk_at dksX1_difference_2 0 rfl rfl)
theorem dX1_difference_49 : decode cX1_difference 49 = .ok (.iconst 1, 1) := dk_4 (dk_at dksX1_difference_2 3 rfl rfl)
theorem dX1_difference_50 : decode cX1_difference 50 = .ok (.iaload, 1) := dk_46 (dk_at dksX1_difference_2 4 rfl rfl)
theorem dX1_difference_51 : decode cX1_difference 51 = .ok (.isub, 1) := dk_100 (dk_at dksX1_difference_2 5 rfl rfl)
theorem dX1_difference_52 : decode cX1_difference 52 = .ok (.ireturn, 1) := dk_172 (dk_at dksX1_difference_2 6 rfl rfl)
abbrev cX1_guarantee : ByteArray := prog_1_method_36_code
def yX1_guarantee : MethodName := ⟨RX1, "guarantee", "(III)I"⟩
def dkwX1_guarantee_3 : List UInt8 := [172]
abbrev dktX1_guarantee_3 : List UInt8 := dkwX1_guarantee_3 ++ []
def dkwX1_guarantee_2 : List UInt8 := [184, 0, 211, 153, 0, 7, 4, 167, 0, 4, 3, 184, 0, 107, 42, 180, 0, 36, 27, 28, 29, 182, 0, 239]
abbrev dktX1_guarantee_2 : List UInt8 := dkwX1_guarantee_2 ++ dktX1_guarantee_3
def dkwX1_guarantee_1 : List UInt8 := [2, 159, 0, 27, 42, 180, 0, 36, 182, 0, 80, 42, 180, 0, 36, 180, 0, 50, 182, 0, 84, 28]
abbrev dktX1_guarantee_1 : List UInt8 := dkwX1_guarantee_1 ++ dktX1_guarantee_2
def dkwX1_guarantee_0 : List UInt8 := [27, 184, 0, 93, 42, 28, 182, 0, 100, 29, 4, 5, 184, 0, 10, 184, 0, 72, 42, 29, 182, 0, 236, 28]
abbrev dktX1_guarantee_0 : List UInt8 := dkwX1_guarantee_0 ++ dktX1_guarantee_1
theorem dksX1_guarantee_0 : cX1_guarantee.data.toList.drop 0 = dktX1_guarantee_0 := by decide +kernel
theorem dksX1_guarantee_1 : cX1_guarantee.data.toList.drop 24 = dktX1_guarantee_1 := dk_seg dksX1_guarantee_0 24 rfl rfl
theorem dksX1_guarantee_2 : cX1_guarantee.data.toList.drop 46 = dktX1_guarantee_2 := dk_seg dksX1_guarantee_1 22 rfl rfl
theorem dksX1_guarantee_3 : cX1_guarantee.data.toList.drop 70 = dktX1_guarantee_3 := dk_seg dksX1_guarantee_2 24 rfl rfl
theorem dX1_guarantee_0 : decode cX1_guarantee 0 = .ok (.iload_n 1, 1) := dk_27 (dk_at dksX1_guarantee_0 0 rfl rfl)
theorem dX1_guarantee_1 : decode cX1_guarantee 1 = .ok (.invokestatic 93, 3) := dk_184 0 93 (dk_at dksX1_guarantee_0 1 rfl rfl)
theorem dX1_guarantee_4 : decode cX1_guarantee 4 = .ok (.aload_n 0, 1) := dk_42 (dk_at dksX1_guarantee_0 4 rfl rfl)
theorem dX1_guarantee_5 : decode cX1_guarantee 5 = .ok (.iload_n 2, 1) := dk_28 (dk_at dksX1_guarantee_0 5 rfl rfl)
theorem dX1_guarantee_6 : decode cX1_guarantee 6 = .ok (.invokevirtual 100, 3) := dk_182 0 100 (dk_at dksX1_guarantee_0 6 rfl rfl)
theorem dX1_guarantee_9 : decode cX1_guarantee 9 = .ok (.iload_n 3, 1) := dk_29 (dk_at dksX1_guarantee_0 9 rfl rfl)
theorem dX1_guarantee_10 : decode cX1_guarantee 10 = .ok (.iconst 1, 1) := dk_4 (dk_at dksX1_guarantee_0 10 rfl rfl)
theorem dX1_guarantee_11 : decode cX1_guarantee 11 = .ok (.iconst 2, 1) := dk_5 (dk_at dksX1_guarantee_0 11 rfl rfl)
theorem dX1_guarantee_12 : decode cX1_guarantee 12 = .ok (.invokestatic 10, 3) := dk_184 0 10 (dk_at dksX1_guarantee_0 12 rfl rfl)
theorem dX1_guarantee_15 : decode cX1_guarantee 15 = .ok (.invokestatic 72, 3) := dk_184 0 72 (dk_at dksX1_guarantee_0 15 rfl rfl)
theorem dX1_guarantee_18 : decode cX1_guarantee 18 = .ok (.aload_n 0, 1) := dk_42 (dk_at dksX1_guarantee_0 18 rfl rfl)
theorem dX1_guarantee_19 : decode cX1_guarantee 19 = .ok (.iload_n 3, 1) := dk_29 (dk_at dksX1_guarantee_0 19 rfl rfl)
theorem dX1_guarantee_20 : decode cX1_guarantee 20 = .ok (.invokevirtual 236, 3) := dk_182 0 236 (dk_at dksX1_guarantee_0 20 rfl rfl)
theorem dX1_guarantee_23 : decode cX1_guarantee 23 = .ok (.iload_n 2, 1) := dk_28 (dk_at dksX1_guarantee_0 23 rfl rfl)
theorem dX1_guarantee_24 : decode cX1_guarantee 24 = .ok (.iconst (-1), 1) := dk_2 (dk_at dksX1_guarantee_1 0 rfl rfl)
theorem dX1_guarantee_25 : decode cX1_guarantee 25 = .ok (.if_icmp .eq 27, 3) := dk_159 0 27 (dk_at dksX1_guarantee_1 1 rfl rfl)
theorem dX1_guarantee_28 : decode cX1_guarantee 28 = .ok (.aload_n 0, 1) := dk_42 (dk_at dksX1_guarantee_1 4 rfl rfl)
theorem dX1_guarantee_29 : decode cX1_guarantee 29 = .ok (.getfield 36, 3) := dk_180 0 36 (dk_at dksX1_guarantee_1 5 rfl rfl)
theorem dX1_guarantee_32 : decode cX1_guarantee 32 = .ok (.invokevirtual 80, 3) := dk_182 0 80 (dk_at dksX1_guarantee_1 8 rfl rfl)
theorem dX1_guarantee_35 : decode cX1_guarantee 35 = .ok (.aload_n 0, 1) := dk_42 (dk_at dksX1_guarantee_1 11 rfl rfl)
theorem dX1_guarantee_36 : decode cX1_guarantee 36 = .ok (.getfield 36, 3) := dk_180 0 36 (dk_at dksX1_guarantee_1 12 rfl rfl)
theorem dX1_guarantee_39 : decode cX1_guarantee 39 = .ok (.getfield 50, 3) := dk_180 0 50 (dk_at dksX1_guarantee_1 15 rfl rfl)
theorem dX1_guarantee_42 : decode cX1_guarantee 42 = .ok (.invokevirtual 84, 3) := dk_182 0 84 (dk_at dksX1_guarantee_1 18 rfl rfl)
theorem dX1_guarantee_45 : decode cX1_guarantee 45 = .ok (.iload_n 2, 1) := dk_28 (dk_at dksX1_guarantee_1 21 rfl rfl)
theorem dX1_guarantee_46 : decode cX1_guarantee 46 = .ok (.invokestatic 211, 3) := dk_184 0 211 (dk_at dksX1_guarantee_2 0 rfl rfl)
theorem dX1_guarantee_49 : decode cX1_guarantee 49 = .ok (.ifCond .eq 7, 3) := dk_153 0 7 (dk_at dksX1_guarantee_2 3 rfl rfl)
theorem dX1_guarantee_52 : decode cX1_guarantee 52 = .ok (.iconst 1, 1) := dk_4 (dk_at dksX1_guarantee_2 6 rfl rfl)
theorem dX1_guarantee_53 : decode cX1_guarantee 53 = .ok (.goto 4, 3) := dk_167 0 4 (dk_at dksX1_guarantee_2 7 rfl rfl)
theorem dX1_guarantee_56 : decode cX1_guarantee 56 = .ok (.iconst 0, 1) := dk_3 (dk_at dksX1_guarantee_2 10 rfl rfl)
theorem dX1_guarantee_57 : decode cX1_guarantee 57 = .ok (.invokestatic 107, 3) := dk_184 0 107 (dk_at dksX1_guarantee_2 11 rfl rfl)
theorem dX1_guarantee_60 : decode cX1_guarantee 60 = .ok (.aload_n 0, 1) := dk_42 (dk_at dksX1_guarantee_2 14 rfl rfl)
theorem dX1_guarantee_61 : decode cX1_guarantee 61 = .ok (.getfield 36, 3) := dk_180 0 36 (dk_at dksX1_guarantee_2 15 rfl rfl)
theorem dX1_guarantee_64 : decode cX1_guarantee 64 = .ok (.iload_n 1, 1) := dk_27 (dk_at dksX1_guarantee_2 18 rfl rfl)
theorem dX1_guarantee_65 : decode cX1_guarantee 65 = .ok (.iload_n 2, 1) := dk_28 (dk_at dksX1_guarantee_2 19 rfl rfl)
theorem dX1_guarantee_66 : decode cX1_guarantee 66 = .ok (.iload_n 3, 1) := dk_29 (dk_at dksX1_guarantee_2 20 rfl rfl)
theorem dX1_guarantee_67 : decode cX1_guarantee 67 = .ok (.invokevirtual 239, 3) := dk_182 0 239 (dk_at dksX1_guarantee_2 21 rfl rfl)
theorem dX1_guarantee_70 : decode cX1_guarantee 70 = .ok (.ireturn, 1) := dk_172 (dk_at dksX1_guarantee_3 0 rfl rfl)
abbrev cX1_checkDepth : ByteArray := prog_1_method_35_code
def yX1_checkDepth : MethodName := ⟨RX1, "checkDepth", "(I)V"⟩
def dkwX1_checkDepth_2 : List UInt8 := [4, 167, 0, 4, 3, 184, 0, 107, 177]
abbrev dktX1_checkDepth_2 : List UInt8 := dkwX1_checkDepth_2 ++ []
def dkwX1_checkDepth_1 : List UInt8 := [180, 0, 36, 182, 0, 80, 42, 180, 0, 36, 180, 0, 50, 182, 0, 84, 184, 0, 90, 16, 6, 163, 0, 7]
abbrev dktX1_checkDepth_1 : List UInt8 := dkwX1_checkDepth_1 ++ dktX1_checkDepth_2
def dkwX1_checkDepth_0 : List UInt8 := [42, 180, 0, 36, 182, 0, 103, 154, 0, 7, 4, 167, 0, 4, 3, 184, 0, 107, 27, 5, 161, 0, 28, 42]
abbrev dktX1_checkDepth_0 : List UInt8 := dkwX1_checkDepth_0 ++ dktX1_checkDepth_1
theorem dksX1_checkDepth_0 : cX1_checkDepth.data.toList.drop 0 = dktX1_checkDepth_0 := by decide +kernel
theorem dksX1_checkDepth_1 : cX1_checkDepth.data.toList.drop 24 = dktX1_checkDepth_1 := dk_seg dksX1_checkDepth_0 24 rfl rfl
theorem dksX1_checkDepth_2 : cX1_checkDepth.data.toList.drop 48 = dktX1_checkDepth_2 := dk_seg dksX1_checkDepth_1 24 rfl rfl
theorem dX1_checkDepth_0 : decode cX1_checkDepth 0 = .ok (.aload_n 0, 1) := dk_42 (dk_at dksX1_checkDepth_0 0 rfl rfl)
theorem dX1_checkDepth_1 : decode cX1_checkDepth 1 = .ok (.getfield 36, 3) := dk_180 0 36 (dk_at dksX1_checkDepth_0 1 rfl rfl)
theorem dX1_checkDepth_4 : decode cX1_checkDepth 4 = .ok (.invokevirtual 103, 3) := dk_182 0 103 (dk_at dksX1_checkDepth_0 4 rfl rfl)
theorem dX1_checkDepth_7 : decode cX1_checkDepth 7 = .ok (.ifCond .ne 7, 3) := dk_154 0 7 (dk_at dksX1_checkDepth_0 7 rfl rfl)
theorem dX1_checkDepth_10 : decode cX1_checkDepth 10 = .ok (.iconst 1, 1) := dk_4 (dk_at dksX1_checkDepth_0 10 rfl rfl)
theorem dX1_checkDepth_11 : decode cX1_checkDepth 11 = .ok (.goto 4, 3) := dk_167 0 4 (dk_at dksX1_checkDepth_0 11 rfl rfl)
theorem dX1_checkDepth_14 : decode cX1_checkDepth 14 = .ok (.iconst 0, 1) := dk_3 (dk_at dksX1_checkDepth_0 14 rfl rfl)
theorem dX1_checkDepth_15 : decode cX1_checkDepth 15 = .ok (.invokestatic 107, 3) := dk_184 0 107 (dk_at dksX1_checkDepth_0 15 rfl rfl)
theorem dX1_checkDepth_18 : decode cX1_checkDepth 18 = .ok (.iload_n 1, 1) := dk_27 (dk_at dksX1_checkDepth_0 18 rfl rfl)
theorem dX1_checkDepth_19 : decode cX1_checkDepth 19 = .ok (.iconst 2, 1) := dk_5 (dk_at dksX1_checkDepth_0 19 rfl rfl)
theorem dX1_checkDepth_20 : decode cX1_checkDepth 20 = .ok (.if_icmp .lt 28, 3) := dk_161 0 28 (dk_at dksX1_checkDepth_0 20 rfl rfl)
theorem dX1_checkDepth_23 : decode cX1_checkDepth 23 = .ok (.aload_n 0, 1) := dk_42 (dk_at dksX1_checkDepth_0 23 rfl rfl)
theorem dX1_checkDepth_24 : decode cX1_checkDepth 24 = .ok (.getfield 36, 3) := dk_180 0 36 (dk_at dksX1_checkDepth_1 0 rfl rfl)
theorem dX1_checkDepth_27 : decode cX1_checkDepth 27 = .ok (.invokevirtual 80, 3) := dk_182 0 80 (dk_at dksX1_checkDepth_1 3 rfl rfl)
theorem dX1_checkDepth_30 : decode cX1_checkDepth 30 = .ok (.aload_n 0, 1) := dk_42 (dk_at dksX1_checkDepth_1 6 rfl rfl)
theorem dX1_checkDepth_31 : decode cX1_checkDepth 31 = .ok (.getfield 36, 3) := dk_180 0 36 (dk_at dksX1_checkDepth_1 7 rfl rfl)
theorem dX1_checkDepth_34 : decode cX1_checkDepth 34 = .ok (.getfield 50, 3) := dk_180 0 50 (dk_at dksX1_checkDepth_1 10 rfl rfl)
theorem dX1_checkDepth_37 : decode cX1_checkDepth 37 = .ok (.invokevirtual 84, 3) := dk_182 0 84 (dk_at dksX1_checkDepth_1 13 rfl rfl)
theorem dX1_checkDepth_40 : decode cX1_checkDepth 40 = .ok (.invokestatic 90, 3) := dk_184 0 90 (dk_at dksX1_checkDepth_1 16 rfl rfl)
theorem dX1_checkDepth_43 : decode cX1_checkDepth 43 = .ok (.bipush 6, 2) := dk_16 6 (dk_at dksX1_checkDepth_1 19 rfl rfl)
theorem dX1_checkDepth_45 : decode cX1_checkDepth 45 = .ok (.if_icmp .gt 7, 3) := dk_163 0 7 (dk_at dksX1_checkDepth_1 21 rfl rfl)
theorem dX1_checkDepth_48 : decode cX1_checkDepth 48 = .ok (.iconst 1, 1) := dk_4 (dk_at dksX1_checkDepth_2 0 rfl rfl)
theorem dX1_checkDepth_49 : decode cX1_checkDepth 49 = .ok (.goto 4, 3) := dk_167 0 4 (dk_at dksX1_checkDepth_2 1 rfl rfl)
theorem dX1_checkDepth_52 : decode cX1_checkDepth 52 = .ok (.iconst 0, 1) := dk_3 (dk_at dksX1_checkDepth_2 4 rfl rfl)
theorem dX1_checkDepth_53 : decode cX1_checkDepth 53 = .ok (.invokestatic 107, 3) := dk_184 0 107 (dk_at dksX1_checkDepth_2 5 rfl rfl)
theorem dX1_checkDepth_56 : decode cX1_checkDepth 56 = .ok (.return_, 1) := dk_177 (dk_at dksX1_checkDepth_2 8 rfl rfl)
abbrev cX1_best : ByteArray := prog_1_method_37_code
def yX1_best : MethodName := ⟨RX1, "best", "(II)I"⟩
def dkwX1_best_1 : List UInt8 := [182, 0, 243, 172]
abbrev dktX1_best_1 : List UInt8 := dkwX1_best_1 ++ []
def dkwX1_best_0 : List UInt8 := [27, 184, 0, 93, 28, 4, 5, 184, 0, 10, 184, 0, 72, 42, 28, 182, 0, 236, 42, 180, 0, 36, 27, 28]
abbrev dktX1_best_0 : List UInt8 := dkwX1_best_0 ++ dktX1_best_1
theorem dksX1_best_0 : cX1_best.data.toList.drop 0 = dktX1_best_0 := by decide +kernel
theorem dksX1_best_1 : cX1_best.data.toList.drop 24 = dktX1_best_1 := dk_seg dksX1_best_0 24 rfl rfl
theorem dX1_best_0 : decode cX1_best 0 = .ok (.iload_n 1, 1) := dk_27 (dk_at dksX1_best_0 0 rfl rfl)
theorem dX1_best_1 : decode cX1_best 1 = .ok (.invokestatic 93, 3) := dk_184 0 93 (dk_at dksX1_best_0 1 rfl rfl)
theorem dX1_best_4 : decode cX1_best 4 = .ok (.iload_n 2, 1) := dk_28 (dk_at dksX1_best_0 4 rfl rfl)
theorem dX1_best_5 : decode cX1_best 5 = .ok (.iconst 1, 1) := dk_4 (dk_at dksX1_best_0 5 rfl rfl)
theorem dX1_best_6 : decode cX1_best 6 = .ok (.iconst 2, 1) := dk_5 (dk_at dksX1_best_0 6 rfl rfl)
theorem dX1_best_7 : decode cX1_best 7 = .ok (.invokestatic 10, 3) := dk_184 0 10 (dk_at dksX1_best_0 7 rfl rfl)
theorem dX1_best_10 : decode cX1_best 10 = .ok (.invokestatic 72, 3) := dk_184 0 72 (dk_at dksX1_best_0 10 rfl rfl)
theorem dX1_best_13 : decode cX1_best 13 = .ok (.aload_n 0, 1) := dk_42 (dk_at dksX1_best_0 13 rfl rfl)
theorem dX1_best_14 : decode cX1_best 14 = .ok (.iload_n 2, 1) := dk_28 (dk_at dksX1_best_0 14 rfl rfl)
theorem dX1_best_15 : decode cX1_best 15 = .ok (.invokevirtual 236, 3) := dk_182 0 236 (dk_at dksX1_best_0 15 rfl rfl)
theorem dX1_best_18 : decode cX1_best 18 = .ok (.aload_n 0, 1) := dk_42 (dk_at dksX1_best_0 18 rfl rfl)
theorem dX1_best_19 : decode cX1_best 19 = .ok (.getfield 36, 3) := dk_180 0 36 (dk_at dksX1_best_0 19 rfl rfl)
theorem dX1_best_22 : decode cX1_best 22 = .ok (.iload_n 1, 1) := dk_27 (dk_at dksX1_best_0 22 rfl rfl)
theorem dX1_best_23 : decode cX1_best 23 = .ok (.iload_n 2, 1) := dk_28 (dk_at dksX1_best_0 23 rfl rfl)
theorem dX1_best_24 : decode cX1_best 24 = .ok (.invokevirtual 243, 3) := dk_182 0 243 (dk_at dksX1_best_1 0 rfl rfl)
theorem dX1_best_27 : decode cX1_best 27 = .ok (.ireturn, 1) := dk_172 (dk_at dksX1_best_1 3 rfl rfl)
abbrev cX1_report : ByteArray := prog_1_method_39_code
def yX1_report : MethodName := ⟨RX1, "report", "(II)I"⟩
def dkwX1_report_1 : List UInt8 := [180, 0, 116, 27, 182, 0, 252, 28, 182, 1, 0, 172]
abbrev dktX1_report_1 : List UInt8 := dkwX1_report_1 ++ []
def dkwX1_report_0 : List UInt8 := [27, 3, 42, 182, 0, 251, 4, 100, 184, 0, 10, 184, 0, 215, 28, 3, 4, 184, 0, 10, 184, 0, 72, 42]
abbrev dktX1_report_0 : List UInt8 := dkwX1_report_0 ++ dktX1_report_1
theorem dksX1_report_0 : cX1_report.data.toList.drop 0 = dktX1_report_0 := by decide +kernel
theorem dksX1_report_1 : cX1_report.data.toList.drop 24 = dktX1_report_1 := dk_seg dksX1_report_0 24 rfl rfl
theorem dX1_report_0 : decode cX1_report 0 = .ok (.iload_n 1, 1) := dk_27 (dk_at dksX1_report_0 0 rfl rfl)
theorem dX1_report_1 : decode cX1_report 1 = .ok (.iconst 0, 1) := dk_3 (dk_at dksX1_report_0 1 rfl rfl)
theorem dX1_report_2 : decode cX1_report 2 = .ok (.aload_n 0, 1) := dk_42 (dk_at dksX1_report_0 2 rfl rfl)
theorem dX1_report_3 : decode cX1_report 3 = .ok (.invokevirtual 251, 3) := dk_182 0 251 (dk_at dksX1_report_0 3 rfl rfl)
theorem dX1_report_6 : decode cX1_report 6 = .ok (.iconst 1, 1) := dk_4 (dk_at dksX1_report_0 6 rfl rfl)
theorem dX1_report_7 : decode cX1_report 7 = .ok (.isub, 1) := dk_100 (dk_at dksX1_report_0 7 rfl rfl)
theorem dX1_report_8 : decode cX1_report 8 = .ok (.invokestatic 10, 3) := dk_184 0 10 (dk_at dksX1_report_0 8 rfl rfl)
theorem dX1_report_11 : decode cX1_report 11 = .ok (.invokestatic 215, 3) := dk_184 0 215 (dk_at dksX1_report_0 11 rfl rfl)
theorem dX1_report_14 : decode cX1_report 14 = .ok (.iload_n 2, 1) := dk_28 (dk_at dksX1_report_0 14 rfl rfl)
theorem dX1_report_15 : decode cX1_report 15 = .ok (.iconst 0, 1) := dk_3 (dk_at dksX1_report_0 15 rfl rfl)
theorem dX1_report_16 : decode cX1_report 16 = .ok (.iconst 1, 1) := dk_4 (dk_at dksX1_report_0 16 rfl rfl)
theorem dX1_report_17 : decode cX1_report 17 = .ok (.invokestatic 10, 3) := dk_184 0 10 (dk_at dksX1_report_0 17 rfl rfl)
theorem dX1_report_20 : decode cX1_report 20 = .ok (.invokestatic 72, 3) := dk_184 0 72 (dk_at dksX1_report_0 20 rfl rfl)
theorem dX1_report_23 : decode cX1_report 23 = .ok (.aload_n 0, 1) := dk_42 (dk_at dksX1_report_0 23 rfl rfl)
theorem dX1_report_24 : decode cX1_report 24 = .ok (.getfield 116, 3) := dk_180 0 116 (dk_at dksX1_report_1 0 rfl rfl)
theorem dX1_report_27 : decode cX1_report 27 = .ok (.iload_n 1, 1) := dk_27 (dk_at dksX1_report_1 3 rfl rfl)
theorem dX1_report_28 : decode cX1_report 28 = .ok (.invokevirtual 252, 3) := dk_182 0 252 (dk_at dksX1_report_1 4 rfl rfl)
theorem dX1_report_31 : decode cX1_report 31 = .ok (.iload_n 2, 1) := dk_28 (dk_at dksX1_report_1 7 rfl rfl)
theorem dX1_report_32 : decode cX1_report 32 = .ok (.invokevirtual 256, 3) := dk_182 1 0 (dk_at dksX1_report_1 8 rfl rfl)
theorem dX1_report_35 : decode cX1_report 35 = .ok (.ireturn, 1) := dk_172 (dk_at dksX1_report_1 11 rfl rfl)
abbrev cX1_feed : ByteArray := prog_1_method_40_code
def yX1_feed : MethodName := ⟨RX1, "feed", "(C)I"⟩
def dkwX1_feed_1 : List UInt8 := [180, 1, 1, 27, 85, 42, 89, 180, 1, 1, 4, 96, 181, 1, 1, 42, 180, 1, 1, 172]
abbrev dktX1_feed_1 : List UInt8 := dkwX1_feed_1 ++ []
def dkwX1_feed_0 : List UInt8 := [42, 180, 1, 1, 16, 80, 162, 0, 7, 4, 167, 0, 4, 3, 184, 0, 107, 42, 180, 0, 40, 42]
abbrev dktX1_feed_0 : List UInt8 := dkwX1_feed_0 ++ dktX1_feed_1
theorem dksX1_feed_0 : cX1_feed.data.toList.drop 0 = dktX1_feed_0 := by decide +kernel
theorem dksX1_feed_1 : cX1_feed.data.toList.drop 22 = dktX1_feed_1 := dk_seg dksX1_feed_0 22 rfl rfl
theorem dX1_feed_0 : decode cX1_feed 0 = .ok (.aload_n 0, 1) := dk_42 (dk_at dksX1_feed_0 0 rfl rfl)
theorem dX1_feed_1 : decode cX1_feed 1 = .ok (.getfield 257, 3) := dk_180 1 1 (dk_at dksX1_feed_0 1 rfl rfl)
theorem dX1_feed_4 : decode cX1_feed 4 = .ok (.bipush 80, 2) := dk_16 80 (dk_at dksX1_feed_0 4 rfl rfl)
theorem dX1_feed_6 : decode cX1_feed 6 = .ok (.if_icmp .ge 7, 3) := dk_162 0 7 (dk_at dksX1_feed_0 6 rfl rfl)
theorem dX1_feed_9 : decode cX1_feed 9 = .ok (.iconst 1, 1) := dk_4 (dk_at dksX1_feed_0 9 rfl rfl)
theorem dX1_feed_10 : decode cX1_feed 10 = .ok (.goto 4, 3) := dk_167 0 4 (dk_at dksX1_feed_0 10 rfl rfl)
theorem dX1_feed_13 : decode cX1_feed 13 = .ok (.iconst 0, 1) := dk_3 (dk_at dksX1_feed_0 13 rfl rfl)
theorem dX1_feed_14 : decode cX1_feed 14 = .ok (.invokestatic 107, 3) := dk_184 0 107 (dk_at dksX1_feed_0 14 rfl rfl)
theorem dX1_feed_17 : decode cX1_feed 17 = .ok (.aload_n 0, 1) := dk_42 (dk_at dksX1_feed_0 17 rfl rfl)
theorem dX1_feed_18 : decode cX1_feed 18 = .ok (.getfield 40, 3) := dk_180 0 40 (dk_at dksX1_feed_0 18 rfl rfl)
theorem dX1_feed_21 : decode cX1_feed 21 = .ok (.aload_n 0, 1) := dk_42 (dk_at dksX1_feed_0 21 rfl rfl)
theorem dX1_feed_22 : decode cX1_feed 22 = .ok (.getfield 257, 3) := dk_180 1 1 (dk_at dksX1_feed_1 0 rfl rfl)
theorem dX1_feed_25 : decode cX1_feed 25 = .ok (.iload_n 1, 1) := dk_27 (dk_at dksX1_feed_1 3 rfl rfl)
theorem dX1_feed_26 : decode cX1_feed 26 = .ok (.castore, 1) := dk_85 (dk_at dksX1_feed_1 4 rfl rfl)
theorem dX1_feed_27 : decode cX1_feed 27 = .ok (.aload_n 0, 1) := dk_42 (dk_at dksX1_feed_1 5 rfl rfl)
theorem dX1_feed_28 : decode cX1_feed 28 = .ok (.dup, 1) := dk_89 (dk_at dksX1_feed_1 6 rfl rfl)
theorem dX1_feed_29 : decode cX1_feed 29 = .ok (.getfield 257, 3) := dk_180 1 1 (dk_at dksX1_feed_1 7 rfl rfl)
theorem dX1_feed_32 : decode cX1_feed 32 = .ok (.iconst 1, 1) := dk_4 (dk_at dksX1_feed_1 10 rfl rfl)
theorem dX1_feed_33 : decode cX1_feed 33 = .ok (.iadd, 1) := dk_96 (dk_at dksX1_feed_1 11 rfl rfl)
theorem dX1_feed_34 : decode cX1_feed 34 = .ok (.putfield 257, 3) := dk_181 1 1 (dk_at dksX1_feed_1 12 rfl rfl)
theorem dX1_feed_37 : decode cX1_feed 37 = .ok (.aload_n 0, 1) := dk_42 (dk_at dksX1_feed_1 15 rfl rfl)
theorem dX1_feed_38 : decode cX1_feed 38 = .ok (.getfield 257, 3) := dk_180 1 1 (dk_at dksX1_feed_1 16 rfl rfl)
theorem dX1_feed_41 : decode cX1_feed 41 = .ok (.ireturn, 1) := dk_172 (dk_at dksX1_feed_1 19 rfl rfl)
abbrev cX1_readRecord : ByteArray := prog_1_method_42_code
def yX1_readRecord : MethodName := ⟨RX1, "readRecord", "()I"⟩
def dkwX1_readRecord_3 : List UInt8 := [187, 0, 120, 89, 183, 0, 122, 191, 78, 42, 3, 181, 1, 1, 45, 191]
abbrev dktX1_readRecord_3 : List UInt8 := dkwX1_readRecord_3 ++ []
def dkwX1_readRecord_2 : List UInt8 := [61, 42, 3, 181, 1, 1, 28, 172, 76, 42, 43, 181, 0, 116, 187, 0, 120, 89, 183, 0, 122, 191, 76]
abbrev dktX1_readRecord_2 : List UInt8 := dkwX1_readRecord_2 ++ dktX1_readRecord_3
def dkwX1_readRecord_1 : List UInt8 := [180, 1, 22, 182, 1, 4, 5, 108, 61, 42, 3, 181, 1, 1, 28, 172, 76, 16, 156, 43, 180, 1, 31, 100]
abbrev dktX1_readRecord_1 : List UInt8 := dkwX1_readRecord_1 ++ dktX1_readRecord_2
def dkwX1_readRecord_0 : List UInt8 := [187, 1, 14, 89, 42, 183, 1, 16, 76, 43, 182, 1, 19, 42, 43, 180, 1, 22, 182, 1, 25, 43]
abbrev dktX1_readRecord_0 : List UInt8 := dkwX1_readRecord_0 ++ dktX1_readRecord_1
theorem dksX1_readRecord_0 : cX1_readRecord.data.toList.drop 0 = dktX1_readRecord_0 := by decide +kernel
theorem dksX1_readRecord_1 : cX1_readRecord.data.toList.drop 22 = dktX1_readRecord_1 := dk_seg dksX1_readRecord_0 22 rfl rfl
theorem dksX1_readRecord_2 : cX1_readRecord.data.toList.drop 46 = dktX1_readRecord_2 := dk_seg dksX1_readRecord_1 24 rfl rfl
theorem dksX1_readRecord_3 : cX1_readRecord.data.toList.drop 69 = dktX1_readRecord_3 := dk_seg dksX1_readRecord_2 23 rfl rfl
theorem dX1_readRecord_0 : decode cX1_readRecord 0 = .ok (.new 270, 3) := dk_187 1 14 (dk_at dksX1_readRecord_0 0 rfl rfl)
theorem dX1_readRecord_3 : decode cX1_readRecord 3 = .ok (.dup, 1) := dk_89 (dk_at dksX1_readRecord_0 3 rfl rfl)
theorem dX1_readRecord_4 : decode cX1_readRecord 4 = .ok (.aload_n 0, 1) := dk_42 (dk_at dksX1_readRecord_0 4 rfl rfl)
theorem dX1_readRecord_5 : decode cX1_readRecord 5 = .ok (.invokespecial 272, 3) := dk_183 1 16 (dk_at dksX1_readRecord_0 5 rfl rfl)
theorem dX1_readRecord_8 : decode cX1_readRecord 8 = .ok (.astore_n 1, 1) := dk_76 (dk_at dksX1_readRecord_0 8 rfl rfl)
theorem dX1_readRecord_9 : decode cX1_readRecord 9 = .ok (.aload_n 1, 1) := dk_43 (dk_at dksX1_readRecord_0 9 rfl rfl)
theorem dX1_readRecord_10 : decode cX1_readRecord 10 = .ok (.invokevirtual 275, 3) := dk_182 1 19 (dk_at dksX1_readRecord_0 10 rfl rfl)
theorem dX1_readRecord_13 : decode cX1_readRecord 13 = .ok (.aload_n 0, 1) := dk_42 (dk_at dksX1_readRecord_0 13 rfl rfl)
theorem dX1_readRecord_14 : decode cX1_readRecord 14 = .ok (.aload_n 1, 1) := dk_43 (dk_at dksX1_readRecord_0 14 rfl rfl)
theorem dX1_readRecord_15 : decode cX1_readRecord 15 = .ok (.getfield 278, 3) := dk_180 1 22 (dk_at dksX1_readRecord_0 15 rfl rfl)
theorem dX1_readRecord_18 : decode cX1_readRecord 18 = .ok (.invokevirtual 281, 3) := dk_182 1 25 (dk_at dksX1_readRecord_0 18 rfl rfl)
theorem dX1_readRecord_21 : decode cX1_readRecord 21 = .ok (.aload_n 1, 1) := dk_43 (dk_at dksX1_readRecord_0 21 rfl rfl)
theorem dX1_readRecord_22 : decode cX1_readRecord 22 = .ok (.getfield 278, 3) := dk_180 1 22 (dk_at dksX1_readRecord_1 0 rfl rfl)
theorem dX1_readRecord_25 : decode cX1_readRecord 25 = .ok (.invokevirtual 260, 3) := dk_182 1 4 (dk_at dksX1_readRecord_1 3 rfl rfl)
theorem dX1_readRecord_28 : decode cX1_readRecord 28 = .ok (.iconst 2, 1) := dk_5 (dk_at dksX1_readRecord_1 6 rfl rfl)
theorem dX1_readRecord_29 : decode cX1_readRecord 29 = .ok (.idiv, 1) := dk_108 (dk_at dksX1_readRecord_1 7 rfl rfl)
theorem dX1_readRecord_30 : decode cX1_readRecord 30 = .ok (.istore_n 2, 1) := dk_61 (dk_at dksX1_readRecord_1 8 rfl rfl)
theorem dX1_readRecord_31 : decode cX1_readRecord 31 = .ok (.aload_n 0, 1) := dk_42 (dk_at dksX1_readRecord_1 9 rfl rfl)
theorem dX1_readRecord_32 : decode cX1_readRecord 32 = .ok (.iconst 0, 1) := dk_3 (dk_at dksX1_readRecord_1 10 rfl rfl)
theorem dX1_readRecord_33 : decode cX1_readRecord 33 = .ok (.putfield 257, 3) := dk_181 1 1 (dk_at dksX1_readRecord_1 11 rfl rfl)
theorem dX1_readRecord_36 : decode cX1_readRecord 36 = .ok (.iload_n 2, 1) := dk_28 (dk_at dksX1_readRecord_1 14 rfl rfl)
theorem dX1_readRecord_37 : decode cX1_readRecord 37 = .ok (.ireturn, 1) := dk_172 (dk_at dksX1_readRecord_1 15 rfl rfl)
theorem dX1_readRecord_38 : decode cX1_readRecord 38 = .ok (.astore_n 1, 1) := dk_76 (dk_at dksX1_readRecord_1 16 rfl rfl)
theorem dX1_readRecord_39 : decode cX1_readRecord 39 = .ok (.bipush (-100), 2) := dk_16 156 (dk_at dksX1_readRecord_1 17 rfl rfl)
theorem dX1_readRecord_41 : decode cX1_readRecord 41 = .ok (.aload_n 1, 1) := dk_43 (dk_at dksX1_readRecord_1 19 rfl rfl)
theorem dX1_readRecord_42 : decode cX1_readRecord 42 = .ok (.getfield 287, 3) := dk_180 1 31 (dk_at dksX1_readRecord_1 20 rfl rfl)
theorem dX1_readRecord_45 : decode cX1_readRecord 45 = .ok (.isub, 1) := dk_100 (dk_at dksX1_readRecord_1 23 rfl rfl)
theorem dX1_readRecord_46 : decode cX1_readRecord 46 = .ok (.istore_n 2, 1) := dk_61 (dk_at dksX1_readRecord_2 0 rfl rfl)
theorem dX1_readRecord_47 : decode cX1_readRecord 47 = .ok (.aload_n 0, 1) := dk_42 (dk_at dksX1_readRecord_2 1 rfl rfl)
theorem dX1_readRecord_48 : decode cX1_readRecord 48 = .ok (.iconst 0, 1) := dk_3 (dk_at dksX1_readRecord_2 2 rfl rfl)
theorem dX1_readRecord_49 : decode cX1_readRecord 49 = .ok (.putfield 257, 3) := dk_181 1 1 (dk_at dksX1_readRecord_2 3 rfl rfl)
theorem dX1_readRecord_52 : decode cX1_readRecord 52 = .ok (.iload_n 2, 1) := dk_28 (dk_at dksX1_readRecord_2 6 rfl rfl)
theorem dX1_readRecord_53 : decode cX1_readRecord 53 = .ok (.ireturn, 1) := dk_172 (dk_at dksX1_readRecord_2 7 rfl rfl)
theorem dX1_readRecord_54 : decode cX1_readRecord 54 = .ok (.astore_n 1, 1) := dk_76 (dk_at dksX1_readRecord_2 8 rfl rfl)
theorem dX1_readRecord_55 : decode cX1_readRecord 55 = .ok (.aload_n 0, 1) := dk_42 (dk_at dksX1_readRecord_2 9 rfl rfl)
theorem dX1_readRecord_56 : decode cX1_readRecord 56 = .ok (.aload_n 1, 1) := dk_43 (dk_at dksX1_readRecord_2 10 rfl rfl)
theorem dX1_readRecord_57 : decode cX1_readRecord 57 = .ok (.putfield 116, 3) := dk_181 0 116 (dk_at dksX1_readRecord_2 11 rfl rfl)
theorem dX1_readRecord_60 : decode cX1_readRecord 60 = .ok (.new 120, 3) := dk_187 0 120 (dk_at dksX1_readRecord_2 14 rfl rfl)
theorem dX1_readRecord_63 : decode cX1_readRecord 63 = .ok (.dup, 1) := dk_89 (dk_at dksX1_readRecord_2 17 rfl rfl)
theorem dX1_readRecord_64 : decode cX1_readRecord 64 = .ok (.invokespecial 122, 3) := dk_183 0 122 (dk_at dksX1_readRecord_2 18 rfl rfl)
theorem dX1_readRecord_67 : decode cX1_readRecord 67 = .ok (.athrow, 1) := dk_191 (dk_at dksX1_readRecord_2 21 rfl rfl)
theorem dX1_readRecord_68 : decode cX1_readRecord 68 = .ok (.astore_n 1, 1) := dk_76 (dk_at dksX1_readRecord_2 22 rfl rfl)
theorem dX1_readRecord_69 : decode cX1_readRecord 69 = .ok (.new 120, 3) := dk_187 0 120 (dk_at dksX1_readRecord_3 0 rfl rfl)
theorem dX1_readRecord_72 : decode cX1_readRecord 72 = .ok (.dup, 1) := dk_89 (dk_at dksX1_readRecord_3 3 rfl rfl)
theorem dX1_readRecord_73 : decode cX1_readRecord 73 = .ok (.invokespecial 122, 3) := dk_183 0 122 (dk_at dksX1_readRecord_3 4 rfl rfl)
theorem dX1_readRecord_76 : decode cX1_readRecord 76 = .ok (.athrow, 1) := dk_191 (dk_at dksX1_readRecord_3 7 rfl rfl)
theorem dX1_readRecord_77 : decode cX1_readRecord 77 = .ok (.astore_n 3, 1) := dk_78 (dk_at dksX1_readRecord_3 8 rfl rfl)
theorem dX1_readRecord_78 : decode cX1_readRecord 78 = .ok (.aload_n 0, 1) := dk_42 (dk_at dksX1_readRecord_3 9 rfl rfl)
theorem dX1_readRecord_79 : decode cX1_readRecord 79 = .ok (.iconst 0, 1) := dk_3 (dk_at dksX1_readRecord_3 10 rfl rfl)
theorem dX1_readRecord_80 : decode cX1_readRecord 80 = .ok (.putfield 257, 3) := dk_181 1 1 (dk_at dksX1_readRecord_3 11 rfl rfl)
theorem dX1_readRecord_83 : decode cX1_readRecord 83 = .ok (.aload_n 3, 1) := dk_45 (dk_at dksX1_readRecord_3 14 rfl rfl)
theorem dX1_readRecord_84 : decode cX1_readRecord 84 = .ok (.athrow, 1) := dk_191 (dk_at dksX1_readRecord_3 15 rfl rfl)
abbrev cX1_playAll : ByteArray := prog_1_method_41_code
def yX1_playAll : MethodName := ⟨RX1, "playAll", "(Ljava/util/ArrayList;)V"⟩
def dkwX1_playAll_2 : List UInt8 := [182, 1, 6, 192, 1, 9, 182, 1, 11, 182, 0, 110, 62, 132, 2, 2, 167, 255, 195, 177]
abbrev dktX1_playAll_2 : List UInt8 := dkwX1_playAll_2 ++ []
def dkwX1_playAll_1 : List UInt8 := [3, 184, 0, 107, 42, 180, 0, 36, 43, 28, 182, 1, 6, 192, 1, 9, 182, 1, 11, 43, 28, 4, 96]
abbrev dktX1_playAll_1 : List UInt8 := dkwX1_playAll_1 ++ dktX1_playAll_2
def dkwX1_playAll_0 : List UInt8 := [3, 61, 28, 43, 182, 1, 4, 162, 0, 59, 42, 180, 0, 36, 182, 0, 103, 154, 0, 7, 4, 167, 0, 4]
abbrev dktX1_playAll_0 : List UInt8 := dkwX1_playAll_0 ++ dktX1_playAll_1
theorem dksX1_playAll_0 : cX1_playAll.data.toList.drop 0 = dktX1_playAll_0 := by decide +kernel
theorem dksX1_playAll_1 : cX1_playAll.data.toList.drop 24 = dktX1_playAll_1 := dk_seg dksX1_playAll_0 24 rfl rfl
theorem dksX1_playAll_2 : cX1_playAll.data.toList.drop 47 = dktX1_playAll_2 := dk_seg dksX1_playAll_1 23 rfl rfl
theorem dX1_playAll_0 : decode cX1_playAll 0 = .ok (.iconst 0, 1) := dk_3 (dk_at dksX1_playAll_0 0 rfl rfl)
theorem dX1_playAll_1 : decode cX1_playAll 1 = .ok (.istore_n 2, 1) := dk_61 (dk_at dksX1_playAll_0 1 rfl rfl)
theorem dX1_playAll_2 : decode cX1_playAll 2 = .ok (.iload_n 2, 1) := dk_28 (dk_at dksX1_playAll_0 2 rfl rfl)
theorem dX1_playAll_3 : decode cX1_playAll 3 = .ok (.aload_n 1, 1) := dk_43 (dk_at dksX1_playAll_0 3 rfl rfl)
theorem dX1_playAll_4 : decode cX1_playAll 4 = .ok (.invokevirtual 260, 3) := dk_182 1 4 (dk_at dksX1_playAll_0 4 rfl rfl)
theorem dX1_playAll_7 : decode cX1_playAll 7 = .ok (.if_icmp .ge 59, 3) := dk_162 0 59 (dk_at dksX1_playAll_0 7 rfl rfl)
theorem dX1_playAll_10 : decode cX1_playAll 10 = .ok (.aload_n 0, 1) := dk_42 (dk_at dksX1_playAll_0 10 rfl rfl)
theorem dX1_playAll_11 : decode cX1_playAll 11 = .ok (.getfield 36, 3) := dk_180 0 36 (dk_at dksX1_playAll_0 11 rfl rfl)
theorem dX1_playAll_14 : decode cX1_playAll 14 = .ok (.invokevirtual 103, 3) := dk_182 0 103 (dk_at dksX1_playAll_0 14 rfl rfl)
theorem dX1_playAll_17 : decode cX1_playAll 17 = .ok (.ifCond .ne 7, 3) := dk_154 0 7 (dk_at dksX1_playAll_0 17 rfl rfl)
theorem dX1_playAll_20 : decode cX1_playAll 20 = .ok (.iconst 1, 1) := dk_4 (dk_at dksX1_playAll_0 20 rfl rfl)
theorem dX1_playAll_21 : decode cX1_playAll 21 = .ok (.goto 4, 3) := dk_167 0 4 (dk_at dksX1_playAll_0 21 rfl rfl)
theorem dX1_playAll_24 : decode cX1_playAll 24 = .ok (.iconst 0, 1) := dk_3 (dk_at dksX1_playAll_1 0 rfl rfl)
theorem dX1_playAll_25 : decode cX1_playAll 25 = .ok (.invokestatic 107, 3) := dk_184 0 107 (dk_at dksX1_playAll_1 1 rfl rfl)
theorem dX1_playAll_28 : decode cX1_playAll 28 = .ok (.aload_n 0, 1) := dk_42 (dk_at dksX1_playAll_1 4 rfl rfl)
theorem dX1_playAll_29 : decode cX1_playAll 29 = .ok (.getfield 36, 3) := dk_180 0 36 (dk_at dksX1_playAll_1 5 rfl rfl)
theorem dX1_playAll_32 : decode cX1_playAll 32 = .ok (.aload_n 1, 1) := dk_43 (dk_at dksX1_playAll_1 8 rfl rfl)
theorem dX1_playAll_33 : decode cX1_playAll 33 = .ok (.iload_n 2, 1) := dk_28 (dk_at dksX1_playAll_1 9 rfl rfl)
theorem dX1_playAll_34 : decode cX1_playAll 34 = .ok (.invokevirtual 262, 3) := dk_182 1 6 (dk_at dksX1_playAll_1 10 rfl rfl)
theorem dX1_playAll_37 : decode cX1_playAll 37 = .ok (.checkcast 265, 3) := dk_192 1 9 (dk_at dksX1_playAll_1 13 rfl rfl)
theorem dX1_playAll_40 : decode cX1_playAll 40 = .ok (.invokevirtual 267, 3) := dk_182 1 11 (dk_at dksX1_playAll_1 16 rfl rfl)
theorem dX1_playAll_43 : decode cX1_playAll 43 = .ok (.aload_n 1, 1) := dk_43 (dk_at dksX1_playAll_1 19 rfl rfl)
theorem dX1_playAll_44 : decode cX1_playAll 44 = .ok (.iload_n 2, 1) := dk_28 (dk_at dksX1_playAll_1 20 rfl rfl)
theorem dX1_playAll_45 : decode cX1_playAll 45 = .ok (.iconst 1, 1) := dk_4 (dk_at dksX1_playAll_1 21 rfl rfl)
theorem dX1_playAll_46 : decode cX1_playAll 46 = .ok (.iadd, 1) := dk_96 (dk_at dksX1_playAll_1 22 rfl rfl)
theorem dX1_playAll_47 : decode cX1_playAll 47 = .ok (.invokevirtual 262, 3) := dk_182 1 6 (dk_at dksX1_playAll_2 0 rfl rfl)
theorem dX1_playAll_50 : decode cX1_playAll 50 = .ok (.checkcast 265, 3) := dk_192 1 9 (dk_at dksX1_playAll_2 3 rfl rfl)
theorem dX1_playAll_53 : decode cX1_playAll 53 = .ok (.invokevirtual 267, 3) := dk_182 1 11 (dk_at dksX1_playAll_2 6 rfl rfl)
theorem dX1_playAll_56 : decode cX1_playAll 56 = .ok (.invokevirtual 110, 3) := dk_182 0 110 (dk_at dksX1_playAll_2 9 rfl rfl)
theorem dX1_playAll_59 : decode cX1_playAll 59 = .ok (.istore_n 3, 1) := dk_62 (dk_at dksX1_playAll_2 12 rfl rfl)
theorem dX1_playAll_60 : decode cX1_playAll 60 = .ok (.iinc 2 2, 3) := dk_132 2 2 (dk_at dksX1_playAll_2 13 rfl rfl)
theorem dX1_playAll_63 : decode cX1_playAll 63 = .ok (.goto (-61), 3) := dk_167 255 195 (dk_at dksX1_playAll_2 16 rfl rfl)
theorem dX1_playAll_66 : decode cX1_playAll 66 = .ok (.return_, 1) := dk_177 (dk_at dksX1_playAll_2 19 rfl rfl)
abbrev cX1_written : ByteArray := prog_1_method_45_code
def yX1_written : MethodName := ⟨RX1, "written", "(I)C"⟩
def dkwX1_written_0 : List UInt8 := [27, 42, 182, 1, 59, 182, 1, 62, 184, 0, 60, 42, 182, 1, 59, 27, 182, 1, 67, 172]
abbrev dktX1_written_0 : List UInt8 := dkwX1_written_0 ++ []
theorem dksX1_written_0 : cX1_written.data.toList.drop 0 = dktX1_written_0 := by decide +kernel
theorem dX1_written_0 : decode cX1_written 0 = .ok (.iload_n 1, 1) := dk_27 (dk_at dksX1_written_0 0 rfl rfl)
theorem dX1_written_1 : decode cX1_written 1 = .ok (.aload_n 0, 1) := dk_42 (dk_at dksX1_written_0 1 rfl rfl)
theorem dX1_written_2 : decode cX1_written 2 = .ok (.invokevirtual 315, 3) := dk_182 1 59 (dk_at dksX1_written_0 2 rfl rfl)
theorem dX1_written_5 : decode cX1_written 5 = .ok (.invokevirtual 318, 3) := dk_182 1 62 (dk_at dksX1_written_0 5 rfl rfl)
theorem dX1_written_8 : decode cX1_written 8 = .ok (.invokestatic 60, 3) := dk_184 0 60 (dk_at dksX1_written_0 8 rfl rfl)
theorem dX1_written_11 : decode cX1_written 11 = .ok (.aload_n 0, 1) := dk_42 (dk_at dksX1_written_0 11 rfl rfl)
theorem dX1_written_12 : decode cX1_written 12 = .ok (.invokevirtual 315, 3) := dk_182 1 59 (dk_at dksX1_written_0 12 rfl rfl)
theorem dX1_written_15 : decode cX1_written 15 = .ok (.iload_n 1, 1) := dk_27 (dk_at dksX1_written_0 15 rfl rfl)
theorem dX1_written_16 : decode cX1_written 16 = .ok (.invokevirtual 323, 3) := dk_182 1 67 (dk_at dksX1_written_0 16 rfl rfl)
theorem dX1_written_19 : decode cX1_written 19 = .ok (.ireturn, 1) := dk_172 (dk_at dksX1_written_0 19 rfl rfl)
abbrev cX1_recordText : ByteArray := prog_1_method_44_code
def yX1_recordText : MethodName := ⟨RX1, "recordText", "()Ljava/lang/String;"⟩
def dkwX1_recordText_4 : List UInt8 := [182, 0, 148, 181, 1, 40, 42, 180, 0, 46, 176]
abbrev dktX1_recordText_4 : List UInt8 := dkwX1_recordText_4 ++ []
def dkwX1_recordText_3 : List UInt8 := [182, 1, 34, 78, 132, 2, 1, 167, 255, 203, 42, 43, 182, 1, 55, 181, 0, 46, 42, 42, 180, 0, 36]
abbrev dktX1_recordText_3 : List UInt8 := dkwX1_recordText_3 ++ dktX1_recordText_4
def dkwX1_recordText_2 : List UInt8 := [182, 1, 48, 42, 43, 42, 180, 0, 36, 28, 182, 0, 157, 180, 1, 52, 182, 1, 48, 43, 16, 59]
abbrev dktX1_recordText_2 : List UInt8 := dkwX1_recordText_2 ++ dktX1_recordText_3
def dkwX1_recordText_1 : List UInt8 := [28, 42, 180, 0, 36, 182, 0, 123, 162, 0, 48, 42, 43, 42, 180, 0, 36, 28, 182, 0, 157, 180, 1, 45]
abbrev dktX1_recordText_1 : List UInt8 := dkwX1_recordText_1 ++ dktX1_recordText_2
def dkwX1_recordText_0 : List UInt8 := [42, 180, 1, 40, 42, 180, 0, 36, 182, 0, 148, 165, 0, 88, 187, 1, 35, 89, 183, 1, 44, 76, 3, 61]
abbrev dktX1_recordText_0 : List UInt8 := dkwX1_recordText_0 ++ dktX1_recordText_1
theorem dksX1_recordText_0 : cX1_recordText.data.toList.drop 0 = dktX1_recordText_0 := by decide +kernel
theorem dksX1_recordText_1 : cX1_recordText.data.toList.drop 24 = dktX1_recordText_1 := dk_seg dksX1_recordText_0 24 rfl rfl
theorem dksX1_recordText_2 : cX1_recordText.data.toList.drop 48 = dktX1_recordText_2 := dk_seg dksX1_recordText_1 24 rfl rfl
theorem dksX1_recordText_3 : cX1_recordText.data.toList.drop 70 = dktX1_recordText_3 := dk_seg dksX1_recordText_2 22 rfl rfl
theorem dksX1_recordText_4 : cX1_recordText.data.toList.drop 93 = dktX1_recordText_4 := dk_seg dksX1_recordText_3 23 rfl rfl
theorem dX1_recordText_0 : decode cX1_recordText 0 = .ok (.aload_n 0, 1) := dk_42 (dk_at dksX1_recordText_0 0 rfl rfl)
theorem dX1_recordText_1 : decode cX1_recordText 1 = .ok (.getfield 296, 3) := dk_180 1 40 (dk_at dksX1_recordText_0 1 rfl rfl)
theorem dX1_recordText_4 : decode cX1_recordText 4 = .ok (.aload_n 0, 1) := dk_42 (dk_at dksX1_recordText_0 4 rfl rfl)
theorem dX1_recordText_5 : decode cX1_recordText 5 = .ok (.getfield 36, 3) := dk_180 0 36 (dk_at dksX1_recordText_0 5 rfl rfl)
theorem dX1_recordText_8 : decode cX1_recordText 8 = .ok (.invokevirtual 148, 3) := dk_182 0 148 (dk_at dksX1_recordText_0 8 rfl rfl)
theorem dX1_recordText_11 : decode cX1_recordText 11 = .ok (.if_acmp .eq 88, 3) := dk_165 0 88 (dk_at dksX1_recordText_0 11 rfl rfl)
theorem dX1_recordText_14 : decode cX1_recordText 14 = .ok (.new 291, 3) := dk_187 1 35 (dk_at dksX1_recordText_0 14 rfl rfl)
theorem dX1_recordText_17 : decode cX1_recordText 17 = .ok (.dup, 1) := dk_89 (dk_at dksX1_recordText_0 17 rfl rfl)
theorem dX1_recordText_18 : decode cX1_recordText 18 = .ok (.invokespecial 300, 3) := dk_183 1 44 (dk_at dksX1_recordText_0 18 rfl rfl)
theorem dX1_recordText_21 : decode cX1_recordText 21 = .ok (.astore_n 1, 1) := dk_76 (dk_at dksX1_recordText_0 21 rfl rfl)
theorem dX1_recordText_22 : decode cX1_recordText 22 = .ok (.iconst 0, 1) := dk_3 (dk_at dksX1_recordText_0 22 rfl rfl)
theorem dX1_recordText_23 : decode cX1_recordText 23 = .ok (.istore_n 2, 1) := dk_61 (dk_at dksX1_recordText_0 23 rfl rfl)
theorem dX1_recordText_24 : decode cX1_recordText 24 = .ok (.iload_n 2, 1) := dk_28 (dk_at dksX1_recordText_1 0 rfl rfl)
theorem dX1_recordText_25 : decode cX1_recordText 25 = .ok (.aload_n 0, 1) := dk_42 (dk_at dksX1_recordText_1 1 rfl rfl)
theorem dX1_recordText_26 : decode cX1_recordText 26 = .ok (.getfield 36, 3) := dk_180 0 36 (dk_at dksX1_recordText_1 2 rfl rfl)
theorem dX1_recordText_29 : decode cX1_recordText 29 = .ok (.invokevirtual 123, 3) := dk_182 0 123 (dk_at dksX1_recordText_1 5 rfl rfl)
theorem dX1_recordText_32 : decode cX1_recordText 32 = .ok (.if_icmp .ge 48, 3) := dk_162 0 48 (dk_at dksX1_recordText_1 8 rfl rfl)
theorem dX1_recordText_35 : decode cX1_recordText 35 = .ok (.aload_n 0, 1) := dk_42 (dk_at dksX1_recordText_1 11 rfl rfl)
theorem dX1_recordText_36 : decode cX1_recordText 36 = .ok (.aload_n 1, 1) := dk_43 (dk_at dksX1_recordText_1 12 rfl rfl)
theorem dX1_recordText_37 : decode cX1_recordText 37 = .ok (.aload_n 0, 1) := dk_42 (dk_at dksX1_recordText_1 13 rfl rfl)
theorem dX1_recordText_38 : decode cX1_recordText 38 = .ok (.getfield 36, 3) := dk_180 0 36 (dk_at dksX1_recordText_1 14 rfl rfl)
theorem dX1_recordText_41 : decode cX1_recordText 41 = .ok (.iload_n 2, 1) := dk_28 (dk_at dksX1_recordText_1 17 rfl rfl)
theorem dX1_recordText_42 : decode cX1_recordText 42 = .ok (.invokevirtual 157, 3) := dk_182 0 157 (dk_at dksX1_recordText_1 18 rfl rfl)
theorem dX1_recordText_45 : decode cX1_recordText 45 = .ok (.getfield 301, 3) := dk_180 1 45 (dk_at dksX1_recordText_1 21 rfl rfl)
theorem dX1_recordText_48 : decode cX1_recordText 48 = .ok (.invokevirtual 304, 3) := dk_182 1 48 (dk_at dksX1_recordText_2 0 rfl rfl)
theorem dX1_recordText_51 : decode cX1_recordText 51 = .ok (.aload_n 0, 1) := dk_42 (dk_at dksX1_recordText_2 3 rfl rfl)
theorem dX1_recordText_52 : decode cX1_recordText 52 = .ok (.aload_n 1, 1) := dk_43 (dk_at dksX1_recordText_2 4 rfl rfl)
theorem dX1_recordText_53 : decode cX1_recordText 53 = .ok (.aload_n 0, 1) := dk_42 (dk_at dksX1_recordText_2 5 rfl rfl)
theorem dX1_recordText_54 : decode cX1_recordText 54 = .ok (.getfield 36, 3) := dk_180 0 36 (dk_at dksX1_recordText_2 6 rfl rfl)
theorem dX1_recordText_57 : decode cX1_recordText 57 = .ok (.iload_n 2, 1) := dk_28 (dk_at dksX1_recordText_2 9 rfl rfl)
theorem dX1_recordText_58 : decode cX1_recordText 58 = .ok (.invokevirtual 157, 3) := dk_182 0 157 (dk_at dksX1_recordText_2 10 rfl rfl)
theorem dX1_recordText_61 : decode cX1_recordText 61 = .ok (.getfield 308, 3) := dk_180 1 52 (dk_at dksX1_recordText_2 13 rfl rfl)
theorem dX1_recordText_64 : decode cX1_recordText 64 = .ok (.invokevirtual 304, 3) := dk_182 1 48 (dk_at dksX1_recordText_2 16 rfl rfl)
theorem dX1_recordText_67 : decode cX1_recordText 67 = .ok (.aload_n 1, 1) := dk_43 (dk_at dksX1_recordText_2 19 rfl rfl)
theorem dX1_recordText_68 : decode cX1_recordText 68 = .ok (.bipush 59, 2) := dk_16 59 (dk_at dksX1_recordText_2 20 rfl rfl)
theorem dX1_recordText_70 : decode cX1_recordText 70 = .ok (.invokevirtual 290, 3) := dk_182 1 34 (dk_at dksX1_recordText_3 0 rfl rfl)
theorem dX1_recordText_73 : decode cX1_recordText 73 = .ok (.astore_n 3, 1) := dk_78 (dk_at dksX1_recordText_3 3 rfl rfl)
theorem dX1_recordText_74 : decode cX1_recordText 74 = .ok (.iinc 2 1, 3) := dk_132 2 1 (dk_at dksX1_recordText_3 4 rfl rfl)
theorem dX1_recordText_77 : decode cX1_recordText 77 = .ok (.goto (-53), 3) := dk_167 255 203 (dk_at dksX1_recordText_3 7 rfl rfl)
theorem dX1_recordText_80 : decode cX1_recordText 80 = .ok (.aload_n 0, 1) := dk_42 (dk_at dksX1_recordText_3 10 rfl rfl)
theorem dX1_recordText_81 : decode cX1_recordText 81 = .ok (.aload_n 1, 1) := dk_43 (dk_at dksX1_recordText_3 11 rfl rfl)
theorem dX1_recordText_82 : decode cX1_recordText 82 = .ok (.invokevirtual 311, 3) := dk_182 1 55 (dk_at dksX1_recordText_3 12 rfl rfl)
theorem dX1_recordText_85 : decode cX1_recordText 85 = .ok (.putfield 46, 3) := dk_181 0 46 (dk_at dksX1_recordText_3 15 rfl rfl)
theorem dX1_recordText_88 : decode cX1_recordText 88 = .ok (.aload_n 0, 1) := dk_42 (dk_at dksX1_recordText_3 18 rfl rfl)
theorem dX1_recordText_89 : decode cX1_recordText 89 = .ok (.aload_n 0, 1) := dk_42 (dk_at dksX1_recordText_3 19 rfl rfl)
theorem dX1_recordText_90 : decode cX1_recordText 90 = .ok (.getfield 36, 3) := dk_180 0 36 (dk_at dksX1_recordText_3 20 rfl rfl)
theorem dX1_recordText_93 : decode cX1_recordText 93 = .ok (.invokevirtual 148, 3) := dk_182 0 148 (dk_at dksX1_recordText_4 0 rfl rfl)
theorem dX1_recordText_96 : decode cX1_recordText 96 = .ok (.putfield 296, 3) := dk_181 1 40 (dk_at dksX1_recordText_4 3 rfl rfl)
theorem dX1_recordText_99 : decode cX1_recordText 99 = .ok (.aload_n 0, 1) := dk_42 (dk_at dksX1_recordText_4 6 rfl rfl)
theorem dX1_recordText_100 : decode cX1_recordText 100 = .ok (.getfield 46, 3) := dk_180 0 46 (dk_at dksX1_recordText_4 7 rfl rfl)
theorem dX1_recordText_103 : decode cX1_recordText 103 = .ok (.areturn, 1) := dk_176 (dk_at dksX1_recordText_4 10 rfl rfl)
abbrev cX1_write : ByteArray := prog_1_method_43_code
def yX1_write : MethodName := ⟨RX1, "write", "(Ljava/lang/StringBuilder;I)V"⟩
def dkwX1_write_2 : List UInt8 := [180, 0, 138, 108, 96, 146, 182, 1, 34, 78, 177]
abbrev dktX1_write_2 : List UInt8 := dkwX1_write_2 ++ []
def dkwX1_write_1 : List UInt8 := [180, 0, 50, 180, 0, 138, 112, 96, 146, 182, 1, 34, 78, 43, 16, 49, 28, 42, 180, 0, 36, 180, 0, 50]
abbrev dktX1_write_1 : List UInt8 := dkwX1_write_1 ++ dktX1_write_2
def dkwX1_write_0 : List UInt8 := [28, 2, 160, 0, 13, 43, 16, 45, 182, 1, 34, 78, 167, 0, 45, 43, 16, 97, 28, 42, 180, 0, 36]
abbrev dktX1_write_0 : List UInt8 := dkwX1_write_0 ++ dktX1_write_1
theorem dksX1_write_0 : cX1_write.data.toList.drop 0 = dktX1_write_0 := by decide +kernel
theorem dksX1_write_1 : cX1_write.data.toList.drop 23 = dktX1_write_1 := dk_seg dksX1_write_0 23 rfl rfl
theorem dksX1_write_2 : cX1_write.data.toList.drop 47 = dktX1_write_2 := dk_seg dksX1_write_1 24 rfl rfl
theorem dX1_write_0 : decode cX1_write 0 = .ok (.iload_n 2, 1) := dk_28 (dk_at dksX1_write_0 0 rfl rfl)
theorem dX1_write_1 : decode cX1_write 1 = .ok (.iconst (-1), 1) := dk_2 (dk_at dksX1_write_0 1 rfl rfl)
theorem dX1_write_2 : decode cX1_write 2 = .ok (.if_icmp .ne 13, 3) := dk_160 0 13 (dk_at dksX1_write_0 2 rfl rfl)
theorem dX1_write_5 : decode cX1_write 5 = .ok (.aload_n 1, 1) := dk_43 (dk_at dksX1_write_0 5 rfl rfl)
theorem dX1_write_6 : decode cX1_write 6 = .ok (.bipush 45, 2) := dk_16 45 (dk_at dksX1_write_0 6 rfl rfl)
theorem dX1_write_8 : decode cX1_write 8 = .ok (.invokevirtual 290, 3) := dk_182 1 34 (dk_at dksX1_write_0 8 rfl rfl)
theorem dX1_write_11 : decode cX1_write 11 = .ok (.astore_n 3, 1) := dk_78 (dk_at dksX1_write_0 11 rfl rfl)
theorem dX1_write_12 : decode cX1_write 12 = .ok (.goto 45, 3) := dk_167 0 45 (dk_at dksX1_write_0 12 rfl rfl)
theorem dX1_write_15 : decode cX1_write 15 = .ok (.aload_n 1, 1) := dk_43 (dk_at dksX1_write_0 15 rfl rfl)
theorem dX1_write_16 : decode cX1_write 16 = .ok (.bipush 97, 2) := dk_16 97 (dk_at dksX1_write_0 16 rfl rfl)
theorem dX1_write_18 : decode cX1_write 18 = .ok (.iload_n 2, 1) := dk_28 (dk_at dksX1_write_0 18 rfl rfl)
theorem dX1_write_19 : decode cX1_write 19 = .ok (.aload_n 0, 1) := dk_42 (dk_at dksX1_write_0 19 rfl rfl)
theorem dX1_write_20 : decode cX1_write 20 = .ok (.getfield 36, 3) := dk_180 0 36 (dk_at dksX1_write_0 20 rfl rfl)
theorem dX1_write_23 : decode cX1_write 23 = .ok (.getfield 50, 3) := dk_180 0 50 (dk_at dksX1_write_1 0 rfl rfl)
theorem dX1_write_26 : decode cX1_write 26 = .ok (.getfield 138, 3) := dk_180 0 138 (dk_at dksX1_write_1 3 rfl rfl)
theorem dX1_write_29 : decode cX1_write 29 = .ok (.irem, 1) := dk_112 (dk_at dksX1_write_1 6 rfl rfl)
theorem dX1_write_30 : decode cX1_write 30 = .ok (.iadd, 1) := dk_96 (dk_at dksX1_write_1 7 rfl rfl)
theorem dX1_write_31 : decode cX1_write 31 = .ok (.i2c, 1) := dk_146 (dk_at dksX1_write_1 8 rfl rfl)
theorem dX1_write_32 : decode cX1_write 32 = .ok (.invokevirtual 290, 3) := dk_182 1 34 (dk_at dksX1_write_1 9 rfl rfl)
theorem dX1_write_35 : decode cX1_write 35 = .ok (.astore_n 3, 1) := dk_78 (dk_at dksX1_write_1 12 rfl rfl)
theorem dX1_write_36 : decode cX1_write 36 = .ok (.aload_n 1, 1) := dk_43 (dk_at dksX1_write_1 13 rfl rfl)
theorem dX1_write_37 : decode cX1_write 37 = .ok (.bipush 49, 2) := dk_16 49 (dk_at dksX1_write_1 14 rfl rfl)
theorem dX1_write_39 : decode cX1_write 39 = .ok (.iload_n 2, 1) := dk_28 (dk_at dksX1_write_1 16 rfl rfl)
theorem dX1_write_40 : decode cX1_write 40 = .ok (.aload_n 0, 1) := dk_42 (dk_at dksX1_write_1 17 rfl rfl)
theorem dX1_write_41 : decode cX1_write 41 = .ok (.getfield 36, 3) := dk_180 0 36 (dk_at dksX1_write_1 18 rfl rfl)
theorem dX1_write_44 : decode cX1_write 44 = .ok (.getfield 50, 3) := dk_180 0 50 (dk_at dksX1_write_1 21 rfl rfl)
theorem dX1_write_47 : decode cX1_write 47 = .ok (.getfield 138, 3) := dk_180 0 138 (dk_at dksX1_write_2 0 rfl rfl)
theorem dX1_write_50 : decode cX1_write 50 = .ok (.idiv, 1) := dk_108 (dk_at dksX1_write_2 3 rfl rfl)
theorem dX1_write_51 : decode cX1_write 51 = .ok (.iadd, 1) := dk_96 (dk_at dksX1_write_2 4 rfl rfl)
theorem dX1_write_52 : decode cX1_write 52 = .ok (.i2c, 1) := dk_146 (dk_at dksX1_write_2 5 rfl rfl)
theorem dX1_write_53 : decode cX1_write 53 = .ok (.invokevirtual 290, 3) := dk_182 1 34 (dk_at dksX1_write_2 6 rfl rfl)
theorem dX1_write_56 : decode cX1_write 56 = .ok (.astore_n 3, 1) := dk_78 (dk_at dksX1_write_2 9 rfl rfl)
theorem dX1_write_57 : decode cX1_write 57 = .ok (.return_, 1) := dk_177 (dk_at dksX1_write_2 10 rfl rfl)
abbrev cX1_restore : ByteArray := prog_1_method_47_code
def yX1_restore : MethodName := ⟨RX1, "restore", "()I"⟩
def dkwX1_restore_1 : List UInt8 := [183, 1, 71, 181, 0, 36, 42, 180, 0, 36, 182, 0, 123, 172]
abbrev dktX1_restore_1 : List UInt8 := dkwX1_restore_1 ++ []
def dkwX1_restore_0 : List UInt8 := [42, 180, 1, 74, 198, 0, 7, 4, 167, 0, 4, 3, 184, 0, 107, 42, 187, 0, 31, 89, 42, 180, 1, 74]
abbrev dktX1_restore_0 : List UInt8 := dkwX1_restore_0 ++ dktX1_restore_1
theorem dksX1_restore_0 : cX1_restore.data.toList.drop 0 = dktX1_restore_0 := by decide +kernel
theorem dksX1_restore_1 : cX1_restore.data.toList.drop 24 = dktX1_restore_1 := dk_seg dksX1_restore_0 24 rfl rfl
theorem dX1_restore_0 : decode cX1_restore 0 = .ok (.aload_n 0, 1) := dk_42 (dk_at dksX1_restore_0 0 rfl rfl)
theorem dX1_restore_1 : decode cX1_restore 1 = .ok (.getfield 330, 3) := dk_180 1 74 (dk_at dksX1_restore_0 1 rfl rfl)
theorem dX1_restore_4 : decode cX1_restore 4 = .ok (.ifnull 7, 3) := dk_198 0 7 (dk_at dksX1_restore_0 4 rfl rfl)
theorem dX1_restore_7 : decode cX1_restore 7 = .ok (.iconst 1, 1) := dk_4 (dk_at dksX1_restore_0 7 rfl rfl)
theorem dX1_restore_8 : decode cX1_restore 8 = .ok (.goto 4, 3) := dk_167 0 4 (dk_at dksX1_restore_0 8 rfl rfl)
theorem dX1_restore_11 : decode cX1_restore 11 = .ok (.iconst 0, 1) := dk_3 (dk_at dksX1_restore_0 11 rfl rfl)
theorem dX1_restore_12 : decode cX1_restore 12 = .ok (.invokestatic 107, 3) := dk_184 0 107 (dk_at dksX1_restore_0 12 rfl rfl)
theorem dX1_restore_15 : decode cX1_restore 15 = .ok (.aload_n 0, 1) := dk_42 (dk_at dksX1_restore_0 15 rfl rfl)
theorem dX1_restore_16 : decode cX1_restore 16 = .ok (.new 31, 3) := dk_187 0 31 (dk_at dksX1_restore_0 16 rfl rfl)
theorem dX1_restore_19 : decode cX1_restore 19 = .ok (.dup, 1) := dk_89 (dk_at dksX1_restore_0 19 rfl rfl)
theorem dX1_restore_20 : decode cX1_restore 20 = .ok (.aload_n 0, 1) := dk_42 (dk_at dksX1_restore_0 20 rfl rfl)
theorem dX1_restore_21 : decode cX1_restore 21 = .ok (.getfield 330, 3) := dk_180 1 74 (dk_at dksX1_restore_0 21 rfl rfl)
theorem dX1_restore_24 : decode cX1_restore 24 = .ok (.invokespecial 327, 3) := dk_183 1 71 (dk_at dksX1_restore_1 0 rfl rfl)
theorem dX1_restore_27 : decode cX1_restore 27 = .ok (.putfield 36, 3) := dk_181 0 36 (dk_at dksX1_restore_1 3 rfl rfl)
theorem dX1_restore_30 : decode cX1_restore 30 = .ok (.aload_n 0, 1) := dk_42 (dk_at dksX1_restore_1 6 rfl rfl)
theorem dX1_restore_31 : decode cX1_restore 31 = .ok (.getfield 36, 3) := dk_180 0 36 (dk_at dksX1_restore_1 7 rfl rfl)
theorem dX1_restore_34 : decode cX1_restore 34 = .ok (.invokevirtual 123, 3) := dk_182 0 123 (dk_at dksX1_restore_1 10 rfl rfl)
theorem dX1_restore_37 : decode cX1_restore 37 = .ok (.ireturn, 1) := dk_172 (dk_at dksX1_restore_1 13 rfl rfl)
theorem q67 : (Jvm.Cond.initialized "EnclosureReferee") ∈ lw_all := lw_g (lw_at lw_m1 1 rfl) rfl
theorem q108 : (Jvm.Cond.instantiable "EnclosureReferee" (7 : Nat)) ∈ lw_all := lw_g (lw_at lw_m1 42 rfl) rfl
theorem q110 : (Jvm.Cond.instanceMethod ({ cls := "EnclosureReferee", name := "<init>", desc := "()V" } : Jvm.MethodName)) ∈ lw_all := lw_g (lw_at lw_m1 44 rfl) rfl
theorem q111 : (Jvm.Cond.code ({ cls := "EnclosureReferee", name := "<init>", desc := "()V" } : Jvm.MethodName) prog_1_method_9_code (1 : Nat) (Option.none : Option Jvm.ClassFile.FieldType)) ∈ lw_all := lw_g (lw_at lw_m1 45 rfl) rfl
theorem q112 : (Jvm.Cond.methodLink "EnclosureReferee" (28 : Nat) ({ cls := "java/lang/Object", name := "<init>", desc := "()V" } : Jvm.MethodName)) ∈ lw_all := lw_g (lw_at lw_m1 46 rfl) rfl
theorem q115 : (Jvm.Cond.classLink "EnclosureReferee" (31 : Nat) "EnclosureReferee$Game") ∈ lw_all := lw_g (lw_at lw_m1 49 rfl) rfl
theorem q117 : (Jvm.Cond.methodLink "EnclosureReferee" (33 : Nat) ({ cls := "EnclosureReferee$Game", name := "<init>", desc := "(III)V" } : Jvm.MethodName)) ∈ lw_all := lw_g (lw_at lw_m1 51 rfl) rfl
theorem q156 : (Jvm.Cond.fieldLinkNest "EnclosureReferee" (194 : Nat) "EnclosureReferee$Board" "stones" "[J" "EnclosureReferee") ∈ lw_tbl := lw_at lw_m1 90 rfl
theorem q158 : (Jvm.Cond.fieldLinkNest "EnclosureReferee" (198 : Nat) "EnclosureReferee$Board" "areas" "[J" "EnclosureReferee") ∈ lw_tbl := lw_at lw_m1 92 rfl
theorem q160 : (Jvm.Cond.fieldLinkNest "EnclosureReferee" (165 : Nat) "EnclosureReferee$Board" "blocks" "J" "EnclosureReferee") ∈ lw_tbl := lw_at lw_m1 94 rfl
theorem q162 : (Jvm.Cond.fieldLinkNest "EnclosureReferee" (201 : Nat) "EnclosureReferee$Board" "captured" "[I" "EnclosureReferee") ∈ lw_tbl := lw_at lw_m1 96 rfl
theorem q185 : (Jvm.Cond.static ({ cls := "EnclosureReferee", name := "bit", desc := "(I)J" } : Jvm.MethodName)) ∈ lw_all := lw_g (lw_at lw_m1 119 rfl) rfl
theorem q186 : (Jvm.Cond.code ({ cls := "EnclosureReferee", name := "bit", desc := "(I)J" } : Jvm.MethodName) prog_1_method_6_code (1 : Nat) (Option.some Jvm.ClassFile.FieldType.long)) ∈ lw_all := lw_g (lw_at lw_m1 120 rfl) rfl
theorem q189 : (Jvm.Cond.fieldLinkNest "EnclosureReferee" (138 : Nat) "EnclosureReferee$Shape" "width" "I" "EnclosureReferee") ∈ lw_tbl := lw_at lw_m1 123 rfl
theorem q192 : (Jvm.Cond.fieldLinkNest "EnclosureReferee" (141 : Nat) "EnclosureReferee$Shape" "height" "I" "EnclosureReferee") ∈ lw_tbl := lw_at lw_m1 126 rfl
theorem q224 : (Jvm.Cond.fieldLinkNest "EnclosureReferee" (301 : Nat) "EnclosureReferee$Round" "first" "I" "EnclosureReferee") ∈ lw_tbl := lw_at lw_m1 158 rfl
theorem q226 : (Jvm.Cond.fieldLinkNest "EnclosureReferee" (308 : Nat) "EnclosureReferee$Round" "second" "I" "EnclosureReferee") ∈ lw_tbl := lw_at lw_m1 160 rfl
theorem q234 : (Jvm.Cond.fieldLinkNest "EnclosureReferee" (227 : Nat) "EnclosureReferee$Round" "scores" "[I" "EnclosureReferee") ∈ lw_tbl := lw_at lw_m1 168 rfl
theorem q237 : (Jvm.Cond.fieldLinkNest "EnclosureReferee" (152 : Nat) "EnclosureReferee$Round" "rounds" "[I" "EnclosureReferee") ∈ lw_tbl := lw_at lw_m1 171 rfl
theorem q240 : (Jvm.Cond.fieldLinkNest "EnclosureReferee" (154 : Nat) "EnclosureReferee$Round" "wavesOfCells" "[I" "EnclosureReferee") ∈ lw_tbl := lw_at lw_m1 174 rfl
theorem q290 : (Jvm.Cond.selects "EnclosureReferee" ({ cls := "java/lang/Object", name := "getClass", desc := "()Ljava/lang/Class;" } : Jvm.MethodName) ({ cls := "java/lang/Object", name := "getClass", desc := "()Ljava/lang/Class;" } : Jvm.MethodName)) ∈ lw_all := lw_g (lw_at lw_m1 224 rfl) rfl
theorem q329 : (Jvm.Cond.fieldLinkNest "EnclosureReferee" (50 : Nat) "EnclosureReferee$Game" "shape" "LEnclosureReferee$Shape;" "EnclosureReferee") ∈ lw_tbl := lw_at lw_m2 23 rfl
theorem q331 : (Jvm.Cond.fieldLinkNest "EnclosureReferee" (126 : Nat) "EnclosureReferee$Game" "positions" "Ljava/util/ArrayList;" "EnclosureReferee") ∈ lw_tbl := lw_at lw_m2 25 rfl
theorem q333 : (Jvm.Cond.fieldLinkNest "EnclosureReferee" (76 : Nat) "EnclosureReferee$Game" "rule" "I" "EnclosureReferee") ∈ lw_tbl := lw_at lw_m2 27 rfl
theorem q335 : (Jvm.Cond.fieldLinkNest "EnclosureReferee" (96 : Nat) "EnclosureReferee$Game" "bonuses" "[I" "EnclosureReferee") ∈ lw_tbl := lw_at lw_m2 29 rfl
theorem q348 : (Jvm.Cond.stringRef "EnclosureReferee" (44 : Nat) "") ∈ lw_tbl := lw_at lw_m2 42 rfl
theorem q350 : (Jvm.Cond.fieldLink "EnclosureReferee" (36 : Nat) "EnclosureReferee" "game" "LEnclosureReferee$Game;") ∈ lw_all := lw_g (lw_at lw_m2 44 rfl) rfl
theorem q351 : (Jvm.Cond.fieldLink "EnclosureReferee" (330 : Nat) "EnclosureReferee" "saved" "LEnclosureReferee$Game;") ∈ lw_all := lw_g (lw_at lw_m2 45 rfl) rfl
theorem q352 : (Jvm.Cond.fieldLink "EnclosureReferee" (116 : Nat) "EnclosureReferee" "report" "LEnclosureReferee$RefusedException;") ∈ lw_all := lw_g (lw_at lw_m2 46 rfl) rfl
theorem q354 : (Jvm.Cond.fieldLink "EnclosureReferee" (40 : Nat) "EnclosureReferee" "input" "[C") ∈ lw_all := lw_g (lw_at lw_m2 48 rfl) rfl
theorem q356 : (Jvm.Cond.fieldLink "EnclosureReferee" (257 : Nat) "EnclosureReferee" "inputLength" "I") ∈ lw_all := lw_g (lw_at lw_m2 50 rfl) rfl
theorem q357 : (Jvm.Cond.fieldLink "EnclosureReferee" (46 : Nat) "EnclosureReferee" "record" "Ljava/lang/String;") ∈ lw_all := lw_g (lw_at lw_m2 51 rfl) rfl
theorem q358 : (Jvm.Cond.fieldLink "EnclosureReferee" (296 : Nat) "EnclosureReferee" "recorded" "LEnclosureReferee$Round;") ∈ lw_all := lw_g (lw_at lw_m2 52 rfl) rfl
theorem q359 : (Jvm.Cond.lays "EnclosureReferee" "EnclosureReferee" "game" "LEnclosureReferee$Game;") ∈ lw_all := lw_g (lw_at lw_m2 53 rfl) rfl
theorem q360 : (Jvm.Cond.soleField "EnclosureReferee" "game") ∈ lw_all := lw_g (lw_at lw_m2 54 rfl) rfl
theorem q361 : (Jvm.Cond.lays "EnclosureReferee" "EnclosureReferee" "saved" "LEnclosureReferee$Game;") ∈ lw_all := lw_g (lw_at lw_m2 55 rfl) rfl
theorem q362 : (Jvm.Cond.soleField "EnclosureReferee" "saved") ∈ lw_all := lw_g (lw_at lw_m2 56 rfl) rfl
theorem q363 : (Jvm.Cond.lays "EnclosureReferee" "EnclosureReferee" "report" "LEnclosureReferee$RefusedException;") ∈ lw_all := lw_g (lw_at lw_m2 57 rfl) rfl
theorem q364 : (Jvm.Cond.soleField "EnclosureReferee" "report") ∈ lw_all := lw_g (lw_at lw_m2 58 rfl) rfl
theorem q365 : (Jvm.Cond.laysFinal "EnclosureReferee" "EnclosureReferee" "input" "[C") ∈ lw_all := lw_g (lw_at lw_m2 59 rfl) rfl
theorem q366 : (Jvm.Cond.soleField "EnclosureReferee" "input") ∈ lw_all := lw_g (lw_at lw_m2 60 rfl) rfl
theorem q367 : (Jvm.Cond.lays "EnclosureReferee" "EnclosureReferee" "inputLength" "I") ∈ lw_all := lw_g (lw_at lw_m2 61 rfl) rfl
theorem q368 : (Jvm.Cond.soleField "EnclosureReferee" "inputLength") ∈ lw_all := lw_g (lw_at lw_m2 62 rfl) rfl
theorem q369 : (Jvm.Cond.lays "EnclosureReferee" "EnclosureReferee" "record" "Ljava/lang/String;") ∈ lw_all := lw_g (lw_at lw_m2 63 rfl) rfl
theorem q370 : (Jvm.Cond.soleField "EnclosureReferee" "record") ∈ lw_all := lw_g (lw_at lw_m2 64 rfl) rfl
theorem q371 : (Jvm.Cond.lays "EnclosureReferee" "EnclosureReferee" "recorded" "LEnclosureReferee$Round;") ∈ lw_all := lw_g (lw_at lw_m2 65 rfl) rfl
theorem q372 : (Jvm.Cond.soleField "EnclosureReferee" "recorded") ∈ lw_all := lw_g (lw_at lw_m2 66 rfl) rfl
theorem q373 : (Jvm.Cond.superclass "EnclosureReferee" "java/lang/Object") ∈ lw_all := lw_g (lw_at lw_m2 67 rfl) rfl
theorem q377 : (Jvm.Cond.instanceMethod ({ cls := "EnclosureReferee", name := "isOver", desc := "()Z" } : Jvm.MethodName)) ∈ lw_all := lw_g (lw_at lw_m2 71 rfl) rfl
theorem q378 : (Jvm.Cond.selects "EnclosureReferee" ({ cls := "EnclosureReferee", name := "isOver", desc := "()Z" } : Jvm.MethodName) ({ cls := "EnclosureReferee", name := "isOver", desc := "()Z" } : Jvm.MethodName)) ∈ lw_all := lw_g (lw_at lw_m2 72 rfl) rfl
theorem q379 : (Jvm.Cond.code ({ cls := "EnclosureReferee", name := "isOver", desc := "()Z" } : Jvm.MethodName) prog_1_method_19_code (1 : Nat) (Option.some Jvm.ClassFile.FieldType.boolean)) ∈ lw_all := lw_g (lw_at lw_m2 73 rfl) rfl
theorem q380 : (Jvm.Cond.methodLink "EnclosureReferee" (103 : Nat) ({ cls := "EnclosureReferee$Game", name := "isOver", desc := "()Z" } : Jvm.MethodName)) ∈ lw_all := lw_g (lw_at lw_m2 74 rfl) rfl
theorem q432 : (Jvm.Cond.instanceMethod ({ cls := "EnclosureReferee", name := "levels", desc := "()I" } : Jvm.MethodName)) ∈ lw_all := lw_g (lw_at lw_m2 126 rfl) rfl
theorem q433 : (Jvm.Cond.selects "EnclosureReferee" ({ cls := "EnclosureReferee", name := "levels", desc := "()I" } : Jvm.MethodName) ({ cls := "EnclosureReferee", name := "levels", desc := "()I" } : Jvm.MethodName)) ∈ lw_all := lw_g (lw_at lw_m2 127 rfl) rfl
theorem q434 : (Jvm.Cond.code ({ cls := "EnclosureReferee", name := "levels", desc := "()I" } : Jvm.MethodName) prog_1_method_38_code (1 : Nat) (Option.some Jvm.ClassFile.FieldType.int)) ∈ lw_all := lw_g (lw_at lw_m2 128 rfl) rfl
theorem q435 : (Jvm.Cond.methodLink "EnclosureReferee" (246 : Nat) ({ cls := "EnclosureReferee$RefusedException", name := "levels", desc := "()I" } : Jvm.MethodName)) ∈ lw_all := lw_g (lw_at lw_m2 129 rfl) rfl
theorem q468 : (Jvm.Cond.instanceMethod ({ cls := "EnclosureReferee", name := "save", desc := "()I" } : Jvm.MethodName)) ∈ lw_all := lw_g (lw_at lw_m2 162 rfl) rfl
theorem q469 : (Jvm.Cond.selects "EnclosureReferee" ({ cls := "EnclosureReferee", name := "save", desc := "()I" } : Jvm.MethodName) ({ cls := "EnclosureReferee", name := "save", desc := "()I" } : Jvm.MethodName)) ∈ lw_all := lw_g (lw_at lw_m2 163 rfl) rfl
theorem q470 : (Jvm.Cond.code ({ cls := "EnclosureReferee", name := "save", desc := "()I" } : Jvm.MethodName) prog_1_method_46_code (1 : Nat) (Option.some Jvm.ClassFile.FieldType.int)) ∈ lw_all := lw_g (lw_at lw_m2 164 rfl) rfl
theorem q471 : (Jvm.Cond.methodLink "EnclosureReferee" (327 : Nat) ({ cls := "EnclosureReferee$Game", name := "<init>", desc := "(LEnclosureReferee$Game;)V" } : Jvm.MethodName)) ∈ lw_all := lw_g (lw_at lw_m2 165 rfl) rfl
theorem q475 : (Jvm.Cond.methodLink "EnclosureReferee" (123 : Nat) ({ cls := "EnclosureReferee$Game", name := "rounds", desc := "()I" } : Jvm.MethodName)) ∈ lw_all := lw_g (lw_at lw_m2 169 rfl) rfl
theorem q481 : (Jvm.Cond.instanceMethod ({ cls := "EnclosureReferee", name := "start", desc := "(III)I" } : Jvm.MethodName)) ∈ lw_all := lw_g (lw_at lw_m2 175 rfl) rfl
theorem q482 : (Jvm.Cond.selects "EnclosureReferee" ({ cls := "EnclosureReferee", name := "start", desc := "(III)I" } : Jvm.MethodName) ({ cls := "EnclosureReferee", name := "start", desc := "(III)I" } : Jvm.MethodName)) ∈ lw_all := lw_g (lw_at lw_m2 176 rfl) rfl
theorem q483 : (Jvm.Cond.code ({ cls := "EnclosureReferee", name := "start", desc := "(III)I" } : Jvm.MethodName) prog_1_method_14_code (5 : Nat) (Option.some Jvm.ClassFile.FieldType.int)) ∈ lw_all := lw_g (lw_at lw_m2 177 rfl) rfl
theorem q484 : (Jvm.Cond.methodLink "EnclosureReferee" (68 : Nat) ({ cls := "EnclosureReferee", name := "isSide", desc := "(I)Z" } : Jvm.MethodName)) ∈ lw_all := lw_g (lw_at lw_m2 178 rfl) rfl
theorem q485 : (Jvm.Cond.static ({ cls := "EnclosureReferee", name := "isSide", desc := "(I)Z" } : Jvm.MethodName)) ∈ lw_all := lw_g (lw_at lw_m2 179 rfl) rfl
theorem q486 : (Jvm.Cond.code ({ cls := "EnclosureReferee", name := "isSide", desc := "(I)Z" } : Jvm.MethodName) prog_1_method_13_code (1 : Nat) (Option.some Jvm.ClassFile.FieldType.boolean)) ∈ lw_all := lw_g (lw_at lw_m2 180 rfl) rfl
theorem q487 : (Jvm.Cond.methodLink "EnclosureReferee" (10 : Nat) ({ cls := "EnclosureReferee", name := "inRange", desc := "(III)Z" } : Jvm.MethodName)) ∈ lw_all := lw_g (lw_at lw_m2 181 rfl) rfl
theorem q488 : (Jvm.Cond.static ({ cls := "EnclosureReferee", name := "inRange", desc := "(III)Z" } : Jvm.MethodName)) ∈ lw_all := lw_g (lw_at lw_m2 182 rfl) rfl
theorem q489 : (Jvm.Cond.code ({ cls := "EnclosureReferee", name := "inRange", desc := "(III)Z" } : Jvm.MethodName) prog_1_method_1_code (3 : Nat) (Option.some Jvm.ClassFile.FieldType.boolean)) ∈ lw_all := lw_g (lw_at lw_m2 183 rfl) rfl
theorem q490 : (Jvm.Cond.methodLink "EnclosureReferee" (72 : Nat) ({ cls := "EnclosureReferee", name := "checkArgument", desc := "(Z)V" } : Jvm.MethodName)) ∈ lw_all := lw_g (lw_at lw_m2 184 rfl) rfl
theorem q491 : (Jvm.Cond.static ({ cls := "EnclosureReferee", name := "checkArgument", desc := "(Z)V" } : Jvm.MethodName)) ∈ lw_all := lw_g (lw_at lw_m2 185 rfl) rfl
theorem q492 : (Jvm.Cond.code ({ cls := "EnclosureReferee", name := "checkArgument", desc := "(Z)V" } : Jvm.MethodName) prog_1_method_2_code (1 : Nat) (Option.none : Option Jvm.ClassFile.FieldType)) ∈ lw_all := lw_g (lw_at lw_m2 186 rfl) rfl
theorem q493 : (Jvm.Cond.classLink "EnclosureReferee" (1 : Nat) "java/lang/IllegalArgumentException") ∈ lw_all := lw_g (lw_at lw_m2 187 rfl) rfl
theorem q542 : (Jvm.Cond.methodLink "EnclosureReferee" (3 : Nat) ({ cls := "java/lang/IllegalArgumentException", name := "<init>", desc := "()V" } : Jvm.MethodName)) ∈ lw_all := lw_g (lw_at lw_m2 236 rfl) rfl
theorem q565 : (Jvm.Cond.methodLink "EnclosureReferee" (80 : Nat) ({ cls := "EnclosureReferee$Game", name := "board", desc := "()LEnclosureReferee$Board;" } : Jvm.MethodName)) ∈ lw_all := lw_g (lw_at lw_m3 19 rfl) rfl
theorem q566 : (Jvm.Cond.methodLink "EnclosureReferee" (84 : Nat) ({ cls := "EnclosureReferee$Board", name := "empty", desc := "(LEnclosureReferee$Shape;)J" } : Jvm.MethodName)) ∈ lw_all := lw_g (lw_at lw_m3 20 rfl) rfl
theorem q567 : (Jvm.Cond.methodLink "EnclosureReferee" (90 : Nat) ({ cls := "EnclosureReferee", name := "size", desc := "(J)I" } : Jvm.MethodName)) ∈ lw_all := lw_g (lw_at lw_m3 21 rfl) rfl
theorem q568 : (Jvm.Cond.static ({ cls := "EnclosureReferee", name := "size", desc := "(J)I" } : Jvm.MethodName)) ∈ lw_all := lw_g (lw_at lw_m3 22 rfl) rfl
theorem q569 : (Jvm.Cond.code ({ cls := "EnclosureReferee", name := "size", desc := "(J)I" } : Jvm.MethodName) prog_1_method_8_code (2 : Nat) (Option.some Jvm.ClassFile.FieldType.int)) ∈ lw_all := lw_g (lw_at lw_m3 23 rfl) rfl
theorem q570 : (Jvm.Cond.methodLink "EnclosureReferee" (22 : Nat) ({ cls := "java/lang/Long", name := "bitCount", desc := "(J)I" } : Jvm.MethodName)) ∈ lw_all := lw_g (lw_at lw_m3 24 rfl) rfl
theorem q580 : (Jvm.Cond.instanceMethod ({ cls := "EnclosureReferee", name := "setRule", desc := "(I)I" } : Jvm.MethodName)) ∈ lw_all := lw_g (lw_at lw_m3 34 rfl) rfl
theorem q581 : (Jvm.Cond.selects "EnclosureReferee" ({ cls := "EnclosureReferee", name := "setRule", desc := "(I)I" } : Jvm.MethodName) ({ cls := "EnclosureReferee", name := "setRule", desc := "(I)I" } : Jvm.MethodName)) ∈ lw_all := lw_g (lw_at lw_m3 35 rfl) rfl
theorem q582 : (Jvm.Cond.code ({ cls := "EnclosureReferee", name := "setRule", desc := "(I)I" } : Jvm.MethodName) prog_1_method_15_code (3 : Nat) (Option.some Jvm.ClassFile.FieldType.int)) ∈ lw_all := lw_g (lw_at lw_m3 36 rfl) rfl
theorem q619 : (Jvm.Cond.instanceMethod ({ cls := "EnclosureReferee", name := "setBonus", desc := "(II)I" } : Jvm.MethodName)) ∈ lw_all := lw_g (lw_at lw_m3 73 rfl) rfl
theorem q620 : (Jvm.Cond.selects "EnclosureReferee" ({ cls := "EnclosureReferee", name := "setBonus", desc := "(II)I" } : Jvm.MethodName) ({ cls := "EnclosureReferee", name := "setBonus", desc := "(II)I" } : Jvm.MethodName)) ∈ lw_all := lw_g (lw_at lw_m3 74 rfl) rfl
theorem q621 : (Jvm.Cond.code ({ cls := "EnclosureReferee", name := "setBonus", desc := "(II)I" } : Jvm.MethodName) prog_1_method_16_code (4 : Nat) (Option.some Jvm.ClassFile.FieldType.int)) ∈ lw_all := lw_g (lw_at lw_m3 75 rfl) rfl
theorem q622 : (Jvm.Cond.methodLink "EnclosureReferee" (93 : Nat) ({ cls := "EnclosureReferee", name := "checkPlayer", desc := "(I)V" } : Jvm.MethodName)) ∈ lw_all := lw_g (lw_at lw_m3 76 rfl) rfl
theorem q623 : (Jvm.Cond.static ({ cls := "EnclosureReferee", name := "checkPlayer", desc := "(I)V" } : Jvm.MethodName)) ∈ lw_all := lw_g (lw_at lw_m3 77 rfl) rfl
theorem q624 : (Jvm.Cond.code ({ cls := "EnclosureReferee", name := "checkPlayer", desc := "(I)V" } : Jvm.MethodName) prog_1_method_12_code (1 : Nat) (Option.none : Option Jvm.ClassFile.FieldType)) ∈ lw_all := lw_g (lw_at lw_m3 78 rfl) rfl
theorem q625 : (Jvm.Cond.methodLink "EnclosureReferee" (60 : Nat) ({ cls := "EnclosureReferee", name := "checkIndex", desc := "(II)V" } : Jvm.MethodName)) ∈ lw_all := lw_g (lw_at lw_m3 79 rfl) rfl
theorem q626 : (Jvm.Cond.static ({ cls := "EnclosureReferee", name := "checkIndex", desc := "(II)V" } : Jvm.MethodName)) ∈ lw_all := lw_g (lw_at lw_m3 80 rfl) rfl
theorem q627 : (Jvm.Cond.code ({ cls := "EnclosureReferee", name := "checkIndex", desc := "(II)V" } : Jvm.MethodName) prog_1_method_4_code (2 : Nat) (Option.none : Option Jvm.ClassFile.FieldType)) ∈ lw_all := lw_g (lw_at lw_m3 81 rfl) rfl
theorem q628 : (Jvm.Cond.classLink "EnclosureReferee" (16 : Nat) "java/lang/IndexOutOfBoundsException") ∈ lw_all := lw_g (lw_at lw_m3 82 rfl) rfl
theorem q637 : (Jvm.Cond.methodLink "EnclosureReferee" (18 : Nat) ({ cls := "java/lang/IndexOutOfBoundsException", name := "<init>", desc := "()V" } : Jvm.MethodName)) ∈ lw_all := lw_g (lw_at lw_m3 91 rfl) rfl
theorem q649 : (Jvm.Cond.instanceMethod ({ cls := "EnclosureReferee", name := "play", desc := "(II)I" } : Jvm.MethodName)) ∈ lw_all := lw_g (lw_at lw_m3 103 rfl) rfl
theorem q650 : (Jvm.Cond.selects "EnclosureReferee" ({ cls := "EnclosureReferee", name := "play", desc := "(II)I" } : Jvm.MethodName) ({ cls := "EnclosureReferee", name := "play", desc := "(II)I" } : Jvm.MethodName)) ∈ lw_all := lw_g (lw_at lw_m3 104 rfl) rfl
theorem q651 : (Jvm.Cond.codeWith ({ cls := "EnclosureReferee", name := "play", desc := "(II)I" } : Jvm.MethodName) prog_1_method_17_code (4 : Nat) (Option.some Jvm.ClassFile.FieldType.int) [((28 : Nat), (37 : Nat), (38 : Nat), (114 : Nat))]) ∈ lw_all := lw_g (lw_at lw_m3 105 rfl) rfl
theorem q652 : (Jvm.Cond.classLink "EnclosureReferee" (114 : Nat) "EnclosureReferee$RoundException") ∈ lw_all := lw_g (lw_at lw_m3 106 rfl) rfl
theorem q653 : (Jvm.Cond.methodLink "EnclosureReferee" (100 : Nat) ({ cls := "EnclosureReferee", name := "checkChoice", desc := "(I)V" } : Jvm.MethodName)) ∈ lw_all := lw_g (lw_at lw_m3 107 rfl) rfl
theorem q654 : (Jvm.Cond.privateMethod ({ cls := "EnclosureReferee", name := "checkChoice", desc := "(I)V" } : Jvm.MethodName)) ∈ lw_tbl := lw_at lw_m3 108 rfl
theorem q655 : (Jvm.Cond.instanceMethod ({ cls := "EnclosureReferee", name := "checkChoice", desc := "(I)V" } : Jvm.MethodName)) ∈ lw_all := lw_g (lw_at lw_m3 109 rfl) rfl
theorem q656 : (Jvm.Cond.code ({ cls := "EnclosureReferee", name := "checkChoice", desc := "(I)V" } : Jvm.MethodName) prog_1_method_11_code (2 : Nat) (Option.none : Option Jvm.ClassFile.FieldType)) ∈ lw_all := lw_g (lw_at lw_m3 110 rfl) rfl
theorem q657 : (Jvm.Cond.methodLink "EnclosureReferee" (64 : Nat) ({ cls := "EnclosureReferee", name := "checkCell", desc := "(I)V" } : Jvm.MethodName)) ∈ lw_all := lw_g (lw_at lw_m3 111 rfl) rfl
theorem q658 : (Jvm.Cond.privateMethod ({ cls := "EnclosureReferee", name := "checkCell", desc := "(I)V" } : Jvm.MethodName)) ∈ lw_tbl := lw_at lw_m3 112 rfl
theorem q659 : (Jvm.Cond.instanceMethod ({ cls := "EnclosureReferee", name := "checkCell", desc := "(I)V" } : Jvm.MethodName)) ∈ lw_all := lw_g (lw_at lw_m3 113 rfl) rfl
theorem q660 : (Jvm.Cond.code ({ cls := "EnclosureReferee", name := "checkCell", desc := "(I)V" } : Jvm.MethodName) prog_1_method_10_code (2 : Nat) (Option.none : Option Jvm.ClassFile.FieldType)) ∈ lw_all := lw_g (lw_at lw_m3 114 rfl) rfl
theorem q661 : (Jvm.Cond.methodLink "EnclosureReferee" (54 : Nat) ({ cls := "EnclosureReferee$Shape", name := "cells", desc := "()I" } : Jvm.MethodName)) ∈ lw_all := lw_g (lw_at lw_m3 115 rfl) rfl
theorem q665 : (Jvm.Cond.methodLink "EnclosureReferee" (107 : Nat) ({ cls := "EnclosureReferee", name := "checkState", desc := "(Z)V" } : Jvm.MethodName)) ∈ lw_all := lw_g (lw_at lw_m3 119 rfl) rfl
theorem q666 : (Jvm.Cond.static ({ cls := "EnclosureReferee", name := "checkState", desc := "(Z)V" } : Jvm.MethodName)) ∈ lw_all := lw_g (lw_at lw_m3 120 rfl) rfl
theorem q667 : (Jvm.Cond.code ({ cls := "EnclosureReferee", name := "checkState", desc := "(Z)V" } : Jvm.MethodName) prog_1_method_3_code (1 : Nat) (Option.none : Option Jvm.ClassFile.FieldType)) ∈ lw_all := lw_g (lw_at lw_m3 121 rfl) rfl
theorem q668 : (Jvm.Cond.classLink "EnclosureReferee" (7 : Nat) "java/lang/IllegalStateException") ∈ lw_all := lw_g (lw_at lw_m3 122 rfl) rfl
theorem q677 : (Jvm.Cond.methodLink "EnclosureReferee" (9 : Nat) ({ cls := "java/lang/IllegalStateException", name := "<init>", desc := "()V" } : Jvm.MethodName)) ∈ lw_all := lw_g (lw_at lw_m3 131 rfl) rfl
theorem q683 : (Jvm.Cond.methodLink "EnclosureReferee" (110 : Nat) ({ cls := "EnclosureReferee$Game", name := "play", desc := "(II)I" } : Jvm.MethodName)) ∈ lw_all := lw_g (lw_at lw_m3 137 rfl) rfl
theorem q707 : (Jvm.Cond.static ({ cls := "EnclosureReferee", name := "has", desc := "(JI)Z" } : Jvm.MethodName)) ∈ lw_all := lw_g (lw_at lw_m3 161 rfl) rfl
theorem q708 : (Jvm.Cond.code ({ cls := "EnclosureReferee", name := "has", desc := "(JI)Z" } : Jvm.MethodName) prog_1_method_7_code (3 : Nat) (Option.some Jvm.ClassFile.FieldType.boolean)) ∈ lw_all := lw_g (lw_at lw_m3 162 rfl) rfl
theorem q859 : (Jvm.Cond.classLink "EnclosureReferee" (120 : Nat) "java/lang/UnsupportedOperationException") ∈ lw_all := lw_g (lw_at lw_m4 73 rfl) rfl
theorem q868 : (Jvm.Cond.methodLink "EnclosureReferee" (122 : Nat) ({ cls := "java/lang/UnsupportedOperationException", name := "<init>", desc := "()V" } : Jvm.MethodName)) ∈ lw_all := lw_g (lw_at lw_m4 82 rfl) rfl
theorem q878 : (Jvm.Cond.instanceMethod ({ cls := "EnclosureReferee", name := "undo", desc := "()I" } : Jvm.MethodName)) ∈ lw_all := lw_g (lw_at lw_m4 92 rfl) rfl
theorem q879 : (Jvm.Cond.selects "EnclosureReferee" ({ cls := "EnclosureReferee", name := "undo", desc := "()I" } : Jvm.MethodName) ({ cls := "EnclosureReferee", name := "undo", desc := "()I" } : Jvm.MethodName)) ∈ lw_all := lw_g (lw_at lw_m4 93 rfl) rfl
theorem q880 : (Jvm.Cond.code ({ cls := "EnclosureReferee", name := "undo", desc := "()I" } : Jvm.MethodName) prog_1_method_18_code (2 : Nat) (Option.some Jvm.ClassFile.FieldType.int)) ∈ lw_all := lw_g (lw_at lw_m4 94 rfl) rfl
theorem q881 : (Jvm.Cond.methodLink "EnclosureReferee" (130 : Nat) ({ cls := "java/util/ArrayList", name := "remove", desc := "(I)Ljava/lang/Object;" } : Jvm.MethodName)) ∈ lw_all := lw_g (lw_at lw_m4 95 rfl) rfl
theorem q890 : (Jvm.Cond.classLink "EnclosureReferee" (136 : Nat) "EnclosureReferee$Round") ∈ lw_all := lw_g (lw_at lw_m4 104 rfl) rfl
theorem q895 : (Jvm.Cond.instanceMethod ({ cls := "EnclosureReferee", name := "cell", desc := "(II)I" } : Jvm.MethodName)) ∈ lw_all := lw_g (lw_at lw_m4 109 rfl) rfl
theorem q896 : (Jvm.Cond.selects "EnclosureReferee" ({ cls := "EnclosureReferee", name := "cell", desc := "(II)I" } : Jvm.MethodName) ({ cls := "EnclosureReferee", name := "cell", desc := "(II)I" } : Jvm.MethodName)) ∈ lw_all := lw_g (lw_at lw_m4 110 rfl) rfl
theorem q897 : (Jvm.Cond.code ({ cls := "EnclosureReferee", name := "cell", desc := "(II)I" } : Jvm.MethodName) prog_1_method_20_code (3 : Nat) (Option.some Jvm.ClassFile.FieldType.int)) ∈ lw_all := lw_g (lw_at lw_m4 111 rfl) rfl
theorem q898 : (Jvm.Cond.methodLink "EnclosureReferee" (144 : Nat) ({ cls := "EnclosureReferee$Board", name := "state", desc := "(LEnclosureReferee$Shape;I)I" } : Jvm.MethodName)) ∈ lw_all := lw_g (lw_at lw_m4 112 rfl) rfl
theorem q903 : (Jvm.Cond.instanceMethod ({ cls := "EnclosureReferee", name := "since", desc := "(II)I" } : Jvm.MethodName)) ∈ lw_all := lw_g (lw_at lw_m4 117 rfl) rfl
theorem q904 : (Jvm.Cond.selects "EnclosureReferee" ({ cls := "EnclosureReferee", name := "since", desc := "(II)I" } : Jvm.MethodName) ({ cls := "EnclosureReferee", name := "since", desc := "(II)I" } : Jvm.MethodName)) ∈ lw_all := lw_g (lw_at lw_m4 118 rfl) rfl
theorem q905 : (Jvm.Cond.code ({ cls := "EnclosureReferee", name := "since", desc := "(II)I" } : Jvm.MethodName) prog_1_method_21_code (3 : Nat) (Option.some Jvm.ClassFile.FieldType.int)) ∈ lw_all := lw_g (lw_at lw_m4 119 rfl) rfl
theorem q906 : (Jvm.Cond.methodLink "EnclosureReferee" (148 : Nat) ({ cls := "EnclosureReferee$Game", name := "last", desc := "()LEnclosureReferee$Round;" } : Jvm.MethodName)) ∈ lw_all := lw_g (lw_at lw_m4 120 rfl) rfl
theorem q911 : (Jvm.Cond.instanceMethod ({ cls := "EnclosureReferee", name := "count", desc := "(I)I" } : Jvm.MethodName)) ∈ lw_all := lw_g (lw_at lw_m4 125 rfl) rfl
theorem q912 : (Jvm.Cond.selects "EnclosureReferee" ({ cls := "EnclosureReferee", name := "count", desc := "(I)I" } : Jvm.MethodName) ({ cls := "EnclosureReferee", name := "count", desc := "(I)I" } : Jvm.MethodName)) ∈ lw_all := lw_g (lw_at lw_m4 126 rfl) rfl
theorem q913 : (Jvm.Cond.code ({ cls := "EnclosureReferee", name := "count", desc := "(I)I" } : Jvm.MethodName) prog_1_method_23_code (2 : Nat) (Option.some Jvm.ClassFile.FieldType.int)) ∈ lw_all := lw_g (lw_at lw_m4 127 rfl) rfl
theorem q914 : (Jvm.Cond.methodLink "EnclosureReferee" (169 : Nat) ({ cls := "EnclosureReferee", name := "sum", desc := "(I)I" } : Jvm.MethodName)) ∈ lw_all := lw_g (lw_at lw_m4 128 rfl) rfl
theorem q915 : (Jvm.Cond.privateMethod ({ cls := "EnclosureReferee", name := "sum", desc := "(I)I" } : Jvm.MethodName)) ∈ lw_tbl := lw_at lw_m4 129 rfl
theorem q916 : (Jvm.Cond.instanceMethod ({ cls := "EnclosureReferee", name := "sum", desc := "(I)I" } : Jvm.MethodName)) ∈ lw_all := lw_g (lw_at lw_m4 130 rfl) rfl
theorem q917 : (Jvm.Cond.code ({ cls := "EnclosureReferee", name := "sum", desc := "(I)I" } : Jvm.MethodName) prog_1_method_22_code (4 : Nat) (Option.some Jvm.ClassFile.FieldType.int)) ∈ lw_all := lw_g (lw_at lw_m4 131 rfl) rfl
theorem q918 : (Jvm.Cond.methodLink "EnclosureReferee" (157 : Nat) ({ cls := "EnclosureReferee$Game", name := "round", desc := "(I)LEnclosureReferee$Round;" } : Jvm.MethodName)) ∈ lw_all := lw_g (lw_at lw_m4 132 rfl) rfl
theorem q919 : (Jvm.Cond.methodLink "EnclosureReferee" (161 : Nat) ({ cls := "EnclosureReferee$Round", name := "part", desc := "(I)I" } : Jvm.MethodName)) ∈ lw_all := lw_g (lw_at lw_m4 133 rfl) rfl
theorem q932 : (Jvm.Cond.instanceMethod ({ cls := "EnclosureReferee", name := "player", desc := "(II)I" } : Jvm.MethodName)) ∈ lw_all := lw_g (lw_at lw_m4 146 rfl) rfl
theorem q933 : (Jvm.Cond.selects "EnclosureReferee" ({ cls := "EnclosureReferee", name := "player", desc := "(II)I" } : Jvm.MethodName) ({ cls := "EnclosureReferee", name := "player", desc := "(II)I" } : Jvm.MethodName)) ∈ lw_all := lw_g (lw_at lw_m4 147 rfl) rfl
theorem q934 : (Jvm.Cond.code ({ cls := "EnclosureReferee", name := "player", desc := "(II)I" } : Jvm.MethodName) prog_1_method_26_code (4 : Nat) (Option.some Jvm.ClassFile.FieldType.int)) ∈ lw_all := lw_g (lw_at lw_m4 148 rfl) rfl
theorem q935 : (Jvm.Cond.methodLink "EnclosureReferee" (190 : Nat) ({ cls := "EnclosureReferee$Game", name := "score", desc := "(LEnclosureReferee$Board;I)I" } : Jvm.MethodName)) ∈ lw_all := lw_g (lw_at lw_m4 149 rfl) rfl
theorem q936 : (Jvm.Cond.methodLink "EnclosureReferee" (204 : Nat) ({ cls := "EnclosureReferee", name := "passes", desc := "(I)I" } : Jvm.MethodName)) ∈ lw_all := lw_g (lw_at lw_m4 150 rfl) rfl
theorem q937 : (Jvm.Cond.privateMethod ({ cls := "EnclosureReferee", name := "passes", desc := "(I)I" } : Jvm.MethodName)) ∈ lw_tbl := lw_at lw_m4 151 rfl
theorem q938 : (Jvm.Cond.instanceMethod ({ cls := "EnclosureReferee", name := "passes", desc := "(I)I" } : Jvm.MethodName)) ∈ lw_all := lw_g (lw_at lw_m4 152 rfl) rfl
theorem q939 : (Jvm.Cond.code ({ cls := "EnclosureReferee", name := "passes", desc := "(I)I" } : Jvm.MethodName) prog_1_method_24_code (4 : Nat) (Option.some Jvm.ClassFile.FieldType.int)) ∈ lw_all := lw_g (lw_at lw_m4 153 rfl) rfl
theorem q940 : (Jvm.Cond.methodLink "EnclosureReferee" (207 : Nat) ({ cls := "EnclosureReferee", name := "regions", desc := "(IZ)I" } : Jvm.MethodName)) ∈ lw_all := lw_g (lw_at lw_m4 154 rfl) rfl
theorem q941 : (Jvm.Cond.privateMethod ({ cls := "EnclosureReferee", name := "regions", desc := "(IZ)I" } : Jvm.MethodName)) ∈ lw_tbl := lw_at lw_m4 155 rfl
theorem q942 : (Jvm.Cond.instanceMethod ({ cls := "EnclosureReferee", name := "regions", desc := "(IZ)I" } : Jvm.MethodName)) ∈ lw_all := lw_g (lw_at lw_m4 156 rfl) rfl
theorem q943 : (Jvm.Cond.code ({ cls := "EnclosureReferee", name := "regions", desc := "(IZ)I" } : Jvm.MethodName) prog_1_method_25_code (9 : Nat) (Option.some Jvm.ClassFile.FieldType.int)) ∈ lw_all := lw_g (lw_at lw_m4 157 rfl) rfl
theorem q944 : (Jvm.Cond.methodLink "EnclosureReferee" (172 : Nat) ({ cls := "EnclosureReferee$Board", name := "open", desc := "(LEnclosureReferee$Shape;I)J" } : Jvm.MethodName)) ∈ lw_all := lw_g (lw_at lw_m4 158 rfl) rfl
theorem q945 : (Jvm.Cond.methodLink "EnclosureReferee" (176 : Nat) ({ cls := "java/lang/Long", name := "numberOfTrailingZeros", desc := "(J)I" } : Jvm.MethodName)) ∈ lw_all := lw_g (lw_at lw_m4 159 rfl) rfl
theorem q952 : (Jvm.Cond.methodLink "EnclosureReferee" (179 : Nat) ({ cls := "EnclosureReferee$Shape", name := "connected", desc := "(IJ)J" } : Jvm.MethodName)) ∈ lw_all := lw_g (lw_at lw_m4 166 rfl) rfl
theorem q953 : (Jvm.Cond.constantLong "EnclosureReferee" (183 : Nat) (-1 : Int64)) ∈ lw_all := lw_g (lw_at lw_m4 167 rfl) rfl
theorem q954 : (Jvm.Cond.methodLink "EnclosureReferee" (185 : Nat) ({ cls := "java/lang/Math", name := "max", desc := "(II)I" } : Jvm.MethodName)) ∈ lw_all := lw_g (lw_at lw_m4 168 rfl) rfl
theorem q960 : (Jvm.Cond.instanceMethod ({ cls := "EnclosureReferee", name := "region", desc := "(II)J" } : Jvm.MethodName)) ∈ lw_all := lw_g (lw_at lw_m4 174 rfl) rfl
theorem q961 : (Jvm.Cond.selects "EnclosureReferee" ({ cls := "EnclosureReferee", name := "region", desc := "(II)J" } : Jvm.MethodName) ({ cls := "EnclosureReferee", name := "region", desc := "(II)J" } : Jvm.MethodName)) ∈ lw_all := lw_g (lw_at lw_m4 175 rfl) rfl
theorem q962 : (Jvm.Cond.code ({ cls := "EnclosureReferee", name := "region", desc := "(II)J" } : Jvm.MethodName) prog_1_method_27_code (5 : Nat) (Option.some Jvm.ClassFile.FieldType.long)) ∈ lw_all := lw_g (lw_at lw_m4 176 rfl) rfl
theorem q963 : (Jvm.Cond.methodLink "EnclosureReferee" (211 : Nat) ({ cls := "EnclosureReferee", name := "has", desc := "(JI)Z" } : Jvm.MethodName)) ∈ lw_all := lw_g (lw_at lw_m4 177 rfl) rfl
theorem q964 : (Jvm.Cond.methodLink "EnclosureReferee" (215 : Nat) ({ cls := "EnclosureReferee", name := "checkFound", desc := "(Z)V" } : Jvm.MethodName)) ∈ lw_all := lw_g (lw_at lw_m4 178 rfl) rfl
theorem q965 : (Jvm.Cond.static ({ cls := "EnclosureReferee", name := "checkFound", desc := "(Z)V" } : Jvm.MethodName)) ∈ lw_all := lw_g (lw_at lw_m4 179 rfl) rfl
theorem q966 : (Jvm.Cond.code ({ cls := "EnclosureReferee", name := "checkFound", desc := "(Z)V" } : Jvm.MethodName) prog_1_method_5_code (1 : Nat) (Option.none : Option Jvm.ClassFile.FieldType)) ∈ lw_all := lw_g (lw_at lw_m4 180 rfl) rfl
theorem q967 : (Jvm.Cond.classLink "EnclosureReferee" (19 : Nat) "java/util/NoSuchElementException") ∈ lw_all := lw_g (lw_at lw_m4 181 rfl) rfl
theorem q976 : (Jvm.Cond.methodLink "EnclosureReferee" (21 : Nat) ({ cls := "java/util/NoSuchElementException", name := "<init>", desc := "()V" } : Jvm.MethodName)) ∈ lw_all := lw_g (lw_at lw_m4 190 rfl) rfl
theorem q986 : (Jvm.Cond.instanceMethod ({ cls := "EnclosureReferee", name := "cells", desc := "(I)J" } : Jvm.MethodName)) ∈ lw_all := lw_g (lw_at lw_m4 200 rfl) rfl
theorem q987 : (Jvm.Cond.selects "EnclosureReferee" ({ cls := "EnclosureReferee", name := "cells", desc := "(I)J" } : Jvm.MethodName) ({ cls := "EnclosureReferee", name := "cells", desc := "(I)J" } : Jvm.MethodName)) ∈ lw_all := lw_g (lw_at lw_m4 201 rfl) rfl
theorem q988 : (Jvm.Cond.code ({ cls := "EnclosureReferee", name := "cells", desc := "(I)J" } : Jvm.MethodName) prog_1_method_28_code (2 : Nat) (Option.some Jvm.ClassFile.FieldType.long)) ∈ lw_all := lw_g (lw_at lw_m4 202 rfl) rfl
theorem q989 : (Jvm.Cond.methodLink "EnclosureReferee" (218 : Nat) ({ cls := "EnclosureReferee$Board", name := "cells", desc := "(LEnclosureReferee$Shape;I)J" } : Jvm.MethodName)) ∈ lw_all := lw_g (lw_at lw_m4 203 rfl) rfl
theorem q994 : (Jvm.Cond.instanceMethod ({ cls := "EnclosureReferee", name := "chain", desc := "(I)J" } : Jvm.MethodName)) ∈ lw_all := lw_g (lw_at lw_m4 208 rfl) rfl
theorem q995 : (Jvm.Cond.selects "EnclosureReferee" ({ cls := "EnclosureReferee", name := "chain", desc := "(I)J" } : Jvm.MethodName) ({ cls := "EnclosureReferee", name := "chain", desc := "(I)J" } : Jvm.MethodName)) ∈ lw_all := lw_g (lw_at lw_m4 209 rfl) rfl
theorem q996 : (Jvm.Cond.code ({ cls := "EnclosureReferee", name := "chain", desc := "(I)J" } : Jvm.MethodName) prog_1_method_29_code (3 : Nat) (Option.some Jvm.ClassFile.FieldType.long)) ∈ lw_all := lw_g (lw_at lw_m4 210 rfl) rfl
theorem q1001 : (Jvm.Cond.instanceMethod ({ cls := "EnclosureReferee", name := "stonesToEnclose", desc := "(II)I" } : Jvm.MethodName)) ∈ lw_all := lw_g (lw_at lw_m4 215 rfl) rfl
theorem q1002 : (Jvm.Cond.selects "EnclosureReferee" ({ cls := "EnclosureReferee", name := "stonesToEnclose", desc := "(II)I" } : Jvm.MethodName) ({ cls := "EnclosureReferee", name := "stonesToEnclose", desc := "(II)I" } : Jvm.MethodName)) ∈ lw_all := lw_g (lw_at lw_m4 216 rfl) rfl
theorem q1003 : (Jvm.Cond.code ({ cls := "EnclosureReferee", name := "stonesToEnclose", desc := "(II)I" } : Jvm.MethodName) prog_1_method_30_code (4 : Nat) (Option.some Jvm.ClassFile.FieldType.int)) ∈ lw_all := lw_g (lw_at lw_m4 217 rfl) rfl
theorem q1004 : (Jvm.Cond.methodLink "EnclosureReferee" (220 : Nat) ({ cls := "EnclosureReferee$Game", name := "stonesToEnclose", desc := "(II)I" } : Jvm.MethodName)) ∈ lw_all := lw_g (lw_at lw_m4 218 rfl) rfl
theorem q1023 : (Jvm.Cond.instanceMethod ({ cls := "EnclosureReferee", name := "share", desc := "(I)D" } : Jvm.MethodName)) ∈ lw_all := lw_g (lw_at lw_m4 237 rfl) rfl
theorem q1024 : (Jvm.Cond.selects "EnclosureReferee" ({ cls := "EnclosureReferee", name := "share", desc := "(I)D" } : Jvm.MethodName) ({ cls := "EnclosureReferee", name := "share", desc := "(I)D" } : Jvm.MethodName)) ∈ lw_all := lw_g (lw_at lw_m4 238 rfl) rfl
theorem q1025 : (Jvm.Cond.code ({ cls := "EnclosureReferee", name := "share", desc := "(I)D" } : Jvm.MethodName) prog_1_method_31_code (2 : Nat) (Option.some Jvm.ClassFile.FieldType.double)) ∈ lw_all := lw_g (lw_at lw_m4 239 rfl) rfl
theorem q1026 : (Jvm.Cond.methodLink "EnclosureReferee" (223 : Nat) ({ cls := "EnclosureReferee$Board", name := "own", desc := "(I)J" } : Jvm.MethodName)) ∈ lw_all := lw_g (lw_at lw_m5 0 rfl) rfl
theorem q1031 : (Jvm.Cond.instanceMethod ({ cls := "EnclosureReferee", name := "round", desc := "(II)I" } : Jvm.MethodName)) ∈ lw_all := lw_g (lw_at lw_m5 5 rfl) rfl
theorem q1032 : (Jvm.Cond.selects "EnclosureReferee" ({ cls := "EnclosureReferee", name := "round", desc := "(II)I" } : Jvm.MethodName) ({ cls := "EnclosureReferee", name := "round", desc := "(II)I" } : Jvm.MethodName)) ∈ lw_all := lw_g (lw_at lw_m5 6 rfl) rfl
theorem q1033 : (Jvm.Cond.code ({ cls := "EnclosureReferee", name := "round", desc := "(II)I" } : Jvm.MethodName) prog_1_method_32_code (3 : Nat) (Option.some Jvm.ClassFile.FieldType.int)) ∈ lw_all := lw_g (lw_at lw_m5 7 rfl) rfl
theorem q1038 : (Jvm.Cond.instanceMethod ({ cls := "EnclosureReferee", name := "turningPoint", desc := "()I" } : Jvm.MethodName)) ∈ lw_all := lw_g (lw_at lw_m5 12 rfl) rfl
theorem q1039 : (Jvm.Cond.selects "EnclosureReferee" ({ cls := "EnclosureReferee", name := "turningPoint", desc := "()I" } : Jvm.MethodName) ({ cls := "EnclosureReferee", name := "turningPoint", desc := "()I" } : Jvm.MethodName)) ∈ lw_all := lw_g (lw_at lw_m5 13 rfl) rfl
theorem q1040 : (Jvm.Cond.code ({ cls := "EnclosureReferee", name := "turningPoint", desc := "()I" } : Jvm.MethodName) prog_1_method_34_code (5 : Nat) (Option.some Jvm.ClassFile.FieldType.int)) ∈ lw_all := lw_g (lw_at lw_m5 14 rfl) rfl
theorem q1041 : (Jvm.Cond.methodLink "EnclosureReferee" (230 : Nat) ({ cls := "EnclosureReferee", name := "difference", desc := "(I)I" } : Jvm.MethodName)) ∈ lw_all := lw_g (lw_at lw_m5 15 rfl) rfl
theorem q1042 : (Jvm.Cond.privateMethod ({ cls := "EnclosureReferee", name := "difference", desc := "(I)I" } : Jvm.MethodName)) ∈ lw_tbl := lw_at lw_m5 16 rfl
theorem q1043 : (Jvm.Cond.instanceMethod ({ cls := "EnclosureReferee", name := "difference", desc := "(I)I" } : Jvm.MethodName)) ∈ lw_all := lw_g (lw_at lw_m5 17 rfl) rfl
theorem q1044 : (Jvm.Cond.code ({ cls := "EnclosureReferee", name := "difference", desc := "(I)I" } : Jvm.MethodName) prog_1_method_33_code (2 : Nat) (Option.some Jvm.ClassFile.FieldType.int)) ∈ lw_all := lw_g (lw_at lw_m5 18 rfl) rfl
theorem q1045 : (Jvm.Cond.methodLink "EnclosureReferee" (233 : Nat) ({ cls := "java/lang/Math", name := "abs", desc := "(I)I" } : Jvm.MethodName)) ∈ lw_all := lw_g (lw_at lw_m5 19 rfl) rfl
theorem q1052 : (Jvm.Cond.instanceMethod ({ cls := "EnclosureReferee", name := "guarantee", desc := "(III)I" } : Jvm.MethodName)) ∈ lw_all := lw_g (lw_at lw_m5 26 rfl) rfl
theorem q1053 : (Jvm.Cond.selects "EnclosureReferee" ({ cls := "EnclosureReferee", name := "guarantee", desc := "(III)I" } : Jvm.MethodName) ({ cls := "EnclosureReferee", name := "guarantee", desc := "(III)I" } : Jvm.MethodName)) ∈ lw_all := lw_g (lw_at lw_m5 27 rfl) rfl
theorem q1054 : (Jvm.Cond.code ({ cls := "EnclosureReferee", name := "guarantee", desc := "(III)I" } : Jvm.MethodName) prog_1_method_36_code (4 : Nat) (Option.some Jvm.ClassFile.FieldType.int)) ∈ lw_all := lw_g (lw_at lw_m5 28 rfl) rfl
theorem q1055 : (Jvm.Cond.methodLink "EnclosureReferee" (236 : Nat) ({ cls := "EnclosureReferee", name := "checkDepth", desc := "(I)V" } : Jvm.MethodName)) ∈ lw_all := lw_g (lw_at lw_m5 29 rfl) rfl
theorem q1056 : (Jvm.Cond.privateMethod ({ cls := "EnclosureReferee", name := "checkDepth", desc := "(I)V" } : Jvm.MethodName)) ∈ lw_tbl := lw_at lw_m5 30 rfl
theorem q1057 : (Jvm.Cond.instanceMethod ({ cls := "EnclosureReferee", name := "checkDepth", desc := "(I)V" } : Jvm.MethodName)) ∈ lw_all := lw_g (lw_at lw_m5 31 rfl) rfl
theorem q1058 : (Jvm.Cond.code ({ cls := "EnclosureReferee", name := "checkDepth", desc := "(I)V" } : Jvm.MethodName) prog_1_method_35_code (2 : Nat) (Option.none : Option Jvm.ClassFile.FieldType)) ∈ lw_all := lw_g (lw_at lw_m5 32 rfl) rfl
theorem q1059 : (Jvm.Cond.methodLink "EnclosureReferee" (239 : Nat) ({ cls := "EnclosureReferee$Game", name := "guarantee", desc := "(III)I" } : Jvm.MethodName)) ∈ lw_all := lw_g (lw_at lw_m5 33 rfl) rfl
theorem q1088 : (Jvm.Cond.instanceMethod ({ cls := "EnclosureReferee", name := "best", desc := "(II)I" } : Jvm.MethodName)) ∈ lw_all := lw_g (lw_at lw_m5 62 rfl) rfl
theorem q1089 : (Jvm.Cond.selects "EnclosureReferee" ({ cls := "EnclosureReferee", name := "best", desc := "(II)I" } : Jvm.MethodName) ({ cls := "EnclosureReferee", name := "best", desc := "(II)I" } : Jvm.MethodName)) ∈ lw_all := lw_g (lw_at lw_m5 63 rfl) rfl
theorem q1090 : (Jvm.Cond.code ({ cls := "EnclosureReferee", name := "best", desc := "(II)I" } : Jvm.MethodName) prog_1_method_37_code (3 : Nat) (Option.some Jvm.ClassFile.FieldType.int)) ∈ lw_all := lw_g (lw_at lw_m5 64 rfl) rfl
theorem q1091 : (Jvm.Cond.methodLink "EnclosureReferee" (243 : Nat) ({ cls := "EnclosureReferee$Game", name := "best", desc := "(II)I" } : Jvm.MethodName)) ∈ lw_all := lw_g (lw_at lw_m5 65 rfl) rfl
theorem q1100 : (Jvm.Cond.instanceMethod ({ cls := "EnclosureReferee", name := "report", desc := "(II)I" } : Jvm.MethodName)) ∈ lw_all := lw_g (lw_at lw_m5 74 rfl) rfl
theorem q1101 : (Jvm.Cond.selects "EnclosureReferee" ({ cls := "EnclosureReferee", name := "report", desc := "(II)I" } : Jvm.MethodName) ({ cls := "EnclosureReferee", name := "report", desc := "(II)I" } : Jvm.MethodName)) ∈ lw_all := lw_g (lw_at lw_m5 75 rfl) rfl
theorem q1102 : (Jvm.Cond.code ({ cls := "EnclosureReferee", name := "report", desc := "(II)I" } : Jvm.MethodName) prog_1_method_39_code (3 : Nat) (Option.some Jvm.ClassFile.FieldType.int)) ∈ lw_all := lw_g (lw_at lw_m5 76 rfl) rfl
theorem q1103 : (Jvm.Cond.methodLink "EnclosureReferee" (251 : Nat) ({ cls := "EnclosureReferee", name := "levels", desc := "()I" } : Jvm.MethodName)) ∈ lw_all := lw_g (lw_at lw_m5 77 rfl) rfl
theorem q1104 : (Jvm.Cond.methodLink "EnclosureReferee" (252 : Nat) ({ cls := "EnclosureReferee$RefusedException", name := "at", desc := "(I)LEnclosureReferee$RefusedException;" } : Jvm.MethodName)) ∈ lw_all := lw_g (lw_at lw_m5 78 rfl) rfl
theorem q1105 : (Jvm.Cond.methodLink "EnclosureReferee" (256 : Nat) ({ cls := "EnclosureReferee$RefusedException", name := "part", desc := "(I)I" } : Jvm.MethodName)) ∈ lw_all := lw_g (lw_at lw_m5 79 rfl) rfl
theorem q1117 : (Jvm.Cond.instanceMethod ({ cls := "EnclosureReferee", name := "feed", desc := "(C)I" } : Jvm.MethodName)) ∈ lw_all := lw_g (lw_at lw_m5 91 rfl) rfl
theorem q1118 : (Jvm.Cond.selects "EnclosureReferee" ({ cls := "EnclosureReferee", name := "feed", desc := "(C)I" } : Jvm.MethodName) ({ cls := "EnclosureReferee", name := "feed", desc := "(C)I" } : Jvm.MethodName)) ∈ lw_all := lw_g (lw_at lw_m5 92 rfl) rfl
theorem q1119 : (Jvm.Cond.code ({ cls := "EnclosureReferee", name := "feed", desc := "(C)I" } : Jvm.MethodName) prog_1_method_40_code (2 : Nat) (Option.some Jvm.ClassFile.FieldType.int)) ∈ lw_all := lw_g (lw_at lw_m5 93 rfl) rfl
theorem q1124 : (Jvm.Cond.instanceMethod ({ cls := "EnclosureReferee", name := "readRecord", desc := "()I" } : Jvm.MethodName)) ∈ lw_all := lw_g (lw_at lw_m5 98 rfl) rfl
theorem q1125 : (Jvm.Cond.selects "EnclosureReferee" ({ cls := "EnclosureReferee", name := "readRecord", desc := "()I" } : Jvm.MethodName) ({ cls := "EnclosureReferee", name := "readRecord", desc := "()I" } : Jvm.MethodName)) ∈ lw_all := lw_g (lw_at lw_m5 99 rfl) rfl
theorem q1126 : (Jvm.Cond.codeWith ({ cls := "EnclosureReferee", name := "readRecord", desc := "()I" } : Jvm.MethodName) prog_1_method_42_code (4 : Nat) (Option.some Jvm.ClassFile.FieldType.int) [((0 : Nat), (31 : Nat), (38 : Nat), (285 : Nat)), ((0 : Nat), (31 : Nat), (54 : Nat), (114 : Nat)), ((0 : Nat), (31 : Nat), (68 : Nat), (7 : Nat)), ((0 : Nat), (31 : Nat), (77 : Nat), (0 : Nat)), ((38 : Nat), (47 : Nat), (77 : Nat), (0 : Nat)), ((54 : Nat), (78 : Nat), (77 : Nat), (0 : Nat))]) ∈ lw_all := lw_g (lw_at lw_m5 100 rfl) rfl
theorem q1127 : (Jvm.Cond.classLink "EnclosureReferee" (285 : Nat) "EnclosureReferee$TextException") ∈ lw_all := lw_g (lw_at lw_m5 101 rfl) rfl
theorem q1128 : (Jvm.Cond.classLink "EnclosureReferee" (270 : Nat) "EnclosureReferee$Reader") ∈ lw_all := lw_g (lw_at lw_m5 102 rfl) rfl
theorem q1130 : (Jvm.Cond.methodLinkNest "EnclosureReferee" (272 : Nat) ({ cls := "EnclosureReferee$Reader", name := "<init>", desc := "(LEnclosureReferee;)V" } : Jvm.MethodName) "EnclosureReferee") ∈ lw_tbl := lw_at lw_m5 104 rfl
theorem q1138 : (Jvm.Cond.fieldLinkNest "EnclosureReferee" (278 : Nat) "EnclosureReferee$Reader" "choices" "Ljava/util/ArrayList;" "EnclosureReferee") ∈ lw_tbl := lw_at lw_m5 112 rfl
theorem q1147 : (Jvm.Cond.methodLink "EnclosureReferee" (275 : Nat) ({ cls := "EnclosureReferee$Reader", name := "read", desc := "()V" } : Jvm.MethodName)) ∈ lw_all := lw_g (lw_at lw_m5 121 rfl) rfl
theorem q1182 : (Jvm.Cond.fieldLinkNest "EnclosureReferee" (287 : Nat) "EnclosureReferee$TextException" "position" "I" "EnclosureReferee") ∈ lw_tbl := lw_at lw_m5 156 rfl
theorem q1208 : (Jvm.Cond.methodLink "EnclosureReferee" (281 : Nat) ({ cls := "EnclosureReferee", name := "playAll", desc := "(Ljava/util/ArrayList;)V" } : Jvm.MethodName)) ∈ lw_all := lw_g (lw_at lw_m5 182 rfl) rfl
theorem q1209 : (Jvm.Cond.privateMethod ({ cls := "EnclosureReferee", name := "playAll", desc := "(Ljava/util/ArrayList;)V" } : Jvm.MethodName)) ∈ lw_tbl := lw_at lw_m5 183 rfl
theorem q1210 : (Jvm.Cond.instanceMethod ({ cls := "EnclosureReferee", name := "playAll", desc := "(Ljava/util/ArrayList;)V" } : Jvm.MethodName)) ∈ lw_all := lw_g (lw_at lw_m5 184 rfl) rfl
theorem q1211 : (Jvm.Cond.code ({ cls := "EnclosureReferee", name := "playAll", desc := "(Ljava/util/ArrayList;)V" } : Jvm.MethodName) prog_1_method_41_code (4 : Nat) (Option.none : Option Jvm.ClassFile.FieldType)) ∈ lw_all := lw_g (lw_at lw_m5 185 rfl) rfl
theorem q1212 : (Jvm.Cond.methodLink "EnclosureReferee" (260 : Nat) ({ cls := "java/util/ArrayList", name := "size", desc := "()I" } : Jvm.MethodName)) ∈ lw_all := lw_g (lw_at lw_m5 186 rfl) rfl
theorem q1213 : (Jvm.Cond.methodLink "EnclosureReferee" (262 : Nat) ({ cls := "java/util/ArrayList", name := "get", desc := "(I)Ljava/lang/Object;" } : Jvm.MethodName)) ∈ lw_all := lw_g (lw_at lw_m5 187 rfl) rfl
theorem q1214 : (Jvm.Cond.classLink "EnclosureReferee" (265 : Nat) "java/lang/Integer") ∈ lw_all := lw_g (lw_at lw_m5 188 rfl) rfl
theorem q1215 : (Jvm.Cond.methodLink "EnclosureReferee" (267 : Nat) ({ cls := "java/lang/Integer", name := "intValue", desc := "()I" } : Jvm.MethodName)) ∈ lw_all := lw_g (lw_at lw_m5 189 rfl) rfl
theorem q1223 : (Jvm.Cond.instanceMethod ({ cls := "EnclosureReferee", name := "written", desc := "(I)C" } : Jvm.MethodName)) ∈ lw_all := lw_g (lw_at lw_m5 197 rfl) rfl
theorem q1224 : (Jvm.Cond.selects "EnclosureReferee" ({ cls := "EnclosureReferee", name := "written", desc := "(I)C" } : Jvm.MethodName) ({ cls := "EnclosureReferee", name := "written", desc := "(I)C" } : Jvm.MethodName)) ∈ lw_all := lw_g (lw_at lw_m5 198 rfl) rfl
theorem q1225 : (Jvm.Cond.code ({ cls := "EnclosureReferee", name := "written", desc := "(I)C" } : Jvm.MethodName) prog_1_method_45_code (2 : Nat) (Option.some Jvm.ClassFile.FieldType.char)) ∈ lw_all := lw_g (lw_at lw_m5 199 rfl) rfl
theorem q1226 : (Jvm.Cond.methodLink "EnclosureReferee" (315 : Nat) ({ cls := "EnclosureReferee", name := "recordText", desc := "()Ljava/lang/String;" } : Jvm.MethodName)) ∈ lw_all := lw_g (lw_at lw_m5 200 rfl) rfl
theorem q1227 : (Jvm.Cond.privateMethod ({ cls := "EnclosureReferee", name := "recordText", desc := "()Ljava/lang/String;" } : Jvm.MethodName)) ∈ lw_tbl := lw_at lw_m5 201 rfl
theorem q1228 : (Jvm.Cond.instanceMethod ({ cls := "EnclosureReferee", name := "recordText", desc := "()Ljava/lang/String;" } : Jvm.MethodName)) ∈ lw_all := lw_g (lw_at lw_m5 202 rfl) rfl
theorem q1229 : (Jvm.Cond.code ({ cls := "EnclosureReferee", name := "recordText", desc := "()Ljava/lang/String;" } : Jvm.MethodName) prog_1_method_44_code (4 : Nat) (Option.some (Jvm.ClassFile.FieldType.object "java/lang/String"))) ∈ lw_all := lw_g (lw_at lw_m5 203 rfl) rfl
theorem q1230 : (Jvm.Cond.classLink "EnclosureReferee" (291 : Nat) "java/lang/StringBuilder") ∈ lw_all := lw_g (lw_at lw_m5 204 rfl) rfl
theorem q1232 : (Jvm.Cond.methodLink "EnclosureReferee" (300 : Nat) ({ cls := "java/lang/StringBuilder", name := "<init>", desc := "()V" } : Jvm.MethodName)) ∈ lw_all := lw_g (lw_at lw_m5 206 rfl) rfl
theorem q1261 : (Jvm.Cond.methodLink "EnclosureReferee" (304 : Nat) ({ cls := "EnclosureReferee", name := "write", desc := "(Ljava/lang/StringBuilder;I)V" } : Jvm.MethodName)) ∈ lw_all := lw_g (lw_at lw_m5 235 rfl) rfl
theorem q1262 : (Jvm.Cond.privateMethod ({ cls := "EnclosureReferee", name := "write", desc := "(Ljava/lang/StringBuilder;I)V" } : Jvm.MethodName)) ∈ lw_tbl := lw_at lw_m5 236 rfl
theorem q1263 : (Jvm.Cond.instanceMethod ({ cls := "EnclosureReferee", name := "write", desc := "(Ljava/lang/StringBuilder;I)V" } : Jvm.MethodName)) ∈ lw_all := lw_g (lw_at lw_m5 237 rfl) rfl
theorem q1264 : (Jvm.Cond.code ({ cls := "EnclosureReferee", name := "write", desc := "(Ljava/lang/StringBuilder;I)V" } : Jvm.MethodName) prog_1_method_43_code (4 : Nat) (Option.none : Option Jvm.ClassFile.FieldType)) ∈ lw_all := lw_g (lw_at lw_m5 238 rfl) rfl
theorem q1265 : (Jvm.Cond.methodLink "EnclosureReferee" (290 : Nat) ({ cls := "java/lang/StringBuilder", name := "append", desc := "(C)Ljava/lang/StringBuilder;" } : Jvm.MethodName)) ∈ lw_all := lw_g (lw_at lw_m5 239 rfl) rfl
theorem q1343 : (Jvm.Cond.methodLink "EnclosureReferee" (311 : Nat) ({ cls := "java/lang/StringBuilder", name := "toString", desc := "()Ljava/lang/String;" } : Jvm.MethodName)) ∈ lw_all := lw_g (lw_at lw_m6 77 rfl) rfl
theorem q1479 : (Jvm.Cond.methodLink "EnclosureReferee" (318 : Nat) ({ cls := "java/lang/String", name := "length", desc := "()I" } : Jvm.MethodName)) ∈ lw_all := lw_g (lw_at lw_m6 213 rfl) rfl
theorem q1480 : (Jvm.Cond.methodLink "EnclosureReferee" (323 : Nat) ({ cls := "java/lang/String", name := "charAt", desc := "(I)C" } : Jvm.MethodName)) ∈ lw_all := lw_g (lw_at lw_m6 214 rfl) rfl
theorem q1499 : (Jvm.Cond.instanceMethod ({ cls := "EnclosureReferee", name := "restore", desc := "()I" } : Jvm.MethodName)) ∈ lw_all := lw_g (lw_at lw_m6 233 rfl) rfl
theorem q1500 : (Jvm.Cond.selects "EnclosureReferee" ({ cls := "EnclosureReferee", name := "restore", desc := "()I" } : Jvm.MethodName) ({ cls := "EnclosureReferee", name := "restore", desc := "()I" } : Jvm.MethodName)) ∈ lw_all := lw_g (lw_at lw_m6 234 rfl) rfl
theorem q1501 : (Jvm.Cond.code ({ cls := "EnclosureReferee", name := "restore", desc := "()I" } : Jvm.MethodName) prog_1_method_47_code (1 : Nat) (Option.some Jvm.ClassFile.FieldType.int)) ∈ lw_all := lw_g (lw_at lw_m6 235 rfl) rfl
theorem q1896 : (Jvm.Cond.castable "EnclosureReferee" "java/lang/Object") ∈ lw_tbl := lw_at lw_m8 150 rfl
theorem in_X1 : ∀ w ∈ wsX10, w ∈ lw_all := lw_in wsX10 [359, 361, 363, 365, 367, 369, 371] (by decide +kernel) (by decide +kernel)
/-! EnclosureReferee$ChoiceException -/
set_option maxRecDepth 100000
def RX10 : String := "EnclosureReferee$ChoiceException"
def TX10 : u_T := fun k => match k with
  | 0 => ("EnclosureReferee$RefusedException", "code", "I", true)
  | 1 => ("EnclosureReferee$RefusedException", "detail", "I", true)
  | 2 => ("java/lang/Throwable", "cause", "Ljava/lang/Throwable;", false)
  | 3 => ("java/lang/Throwable", "stackTrace", "[Ljava/lang/StackTraceElement;", false)
  | 4 => ("java/lang/Throwable", "suppressedExceptions", "Ljava/util/List;", false)
  | 5 => ("java/lang/Throwable", "detailMessage", "Ljava/lang/String;", false)
  | 6 => ("java/lang/Throwable", "backtrace", "Ljava/lang/Object;", false)
  | _ => ("java/lang/Throwable", "depth", "I", false)
def tyX10 : Nat → FieldType := fun k => match k with
  | 0 => .int
  | 1 => .int
  | 2 => .object "java/lang/Throwable"
  | 3 => .array (.object "java/lang/StackTraceElement")
  | 4 => .object "java/util/List"
  | 5 => .object "java/lang/String"
  | 6 => .object "java/lang/Object"
  | _ => .int
abbrev wsX100 : List Cond := u_ws RX10 TX10 8
theorem nmX10 : ∀ a, a < 8 → ∀ b, b < 8 → a ≠ b → (TX10 a).2.1 ≠ (TX10 b).2.1 := by decide +kernel
theorem tyX10_ok : ∀ k, k < 8 → parseFieldDescriptor (TX10 k).2.2.1 = some (tyX10 k) := by decide +kernel
abbrev cX10_init : ByteArray := prog_4_method_1_code
def yX10_init : MethodName := ⟨RX10, "<init>", "(IILEnclosureReferee$CellException;)V"⟩
def dkwX10_init_0 : List UInt8 := [42, 5, 27, 96, 28, 45, 183, 0, 1, 177]
abbrev dktX10_init_0 : List UInt8 := dkwX10_init_0 ++ []
theorem dksX10_init_0 : cX10_init.data.toList.drop 0 = dktX10_init_0 := by decide +kernel
theorem dX10_init_0 : decode cX10_init 0 = .ok (.aload_n 0, 1) := dk_42 (dk_at dksX10_init_0 0 rfl rfl)
theorem dX10_init_1 : decode cX10_init 1 = .ok (.iconst 2, 1) := dk_5 (dk_at dksX10_init_0 1 rfl rfl)
theorem dX10_init_2 : decode cX10_init 2 = .ok (.iload_n 1, 1) := dk_27 (dk_at dksX10_init_0 2 rfl rfl)
theorem dX10_init_3 : decode cX10_init 3 = .ok (.iadd, 1) := dk_96 (dk_at dksX10_init_0 3 rfl rfl)
theorem dX10_init_4 : decode cX10_init 4 = .ok (.iload_n 2, 1) := dk_28 (dk_at dksX10_init_0 4 rfl rfl)
theorem dX10_init_5 : decode cX10_init 5 = .ok (.aload_n 3, 1) := dk_45 (dk_at dksX10_init_0 5 rfl rfl)
theorem dX10_init_6 : decode cX10_init 6 = .ok (.invokespecial 1, 3) := dk_183 0 1 (dk_at dksX10_init_0 6 rfl rfl)
theorem dX10_init_9 : decode cX10_init 9 = .ok (.return_, 1) := dk_177 (dk_at dksX10_init_0 9 rfl rfl)
theorem q95 : (Jvm.Cond.initialized "EnclosureReferee$ChoiceException") ∈ lw_all := lw_g (lw_at lw_m1 29 rfl) rfl
theorem q293 : (Jvm.Cond.selects "EnclosureReferee$ChoiceException" ({ cls := "java/lang/Object", name := "getClass", desc := "()Ljava/lang/Class;" } : Jvm.MethodName) ({ cls := "java/lang/Object", name := "getClass", desc := "()Ljava/lang/Class;" } : Jvm.MethodName)) ∈ lw_all := lw_g (lw_at lw_m1 227 rfl) rfl
theorem q439 : (Jvm.Cond.selects "EnclosureReferee$ChoiceException" ({ cls := "EnclosureReferee$RefusedException", name := "levels", desc := "()I" } : Jvm.MethodName) ({ cls := "EnclosureReferee$RefusedException", name := "levels", desc := "()I" } : Jvm.MethodName)) ∈ lw_all := lw_g (lw_at lw_m2 133 rfl) rfl
theorem q447 : (Jvm.Cond.selects "EnclosureReferee$ChoiceException" ({ cls := "EnclosureReferee$RefusedException", name := "at", desc := "(I)LEnclosureReferee$RefusedException;" } : Jvm.MethodName) ({ cls := "EnclosureReferee$RefusedException", name := "at", desc := "(I)LEnclosureReferee$RefusedException;" } : Jvm.MethodName)) ∈ lw_all := lw_g (lw_at lw_m2 141 rfl) rfl
theorem q455 : (Jvm.Cond.selects "EnclosureReferee$ChoiceException" ({ cls := "java/lang/Throwable", name := "getCause", desc := "()Ljava/lang/Throwable;" } : Jvm.MethodName) ({ cls := "java/lang/Throwable", name := "getCause", desc := "()Ljava/lang/Throwable;" } : Jvm.MethodName)) ∈ lw_all := lw_g (lw_at lw_m2 149 rfl) rfl
theorem q527 : (Jvm.Cond.selects "EnclosureReferee$ChoiceException" ({ cls := "java/lang/Throwable", name := "fillInStackTrace", desc := "()Ljava/lang/Throwable;" } : Jvm.MethodName) ({ cls := "java/lang/Throwable", name := "fillInStackTrace", desc := "()Ljava/lang/Throwable;" } : Jvm.MethodName)) ∈ lw_all := lw_g (lw_at lw_m2 221 rfl) rfl
theorem q758 : (Jvm.Cond.instantiable "EnclosureReferee$ChoiceException" (8 : Nat)) ∈ lw_all := lw_g (lw_at lw_m3 212 rfl) rfl
theorem q759 : (Jvm.Cond.castable "EnclosureReferee$ChoiceException" "EnclosureReferee$ChoiceException") ∈ lw_tbl := lw_at lw_m3 213 rfl
theorem q760 : (Jvm.Cond.selects "EnclosureReferee$ChoiceException" ({ cls := "java/lang/Throwable", name := "fillInStackTrace", desc := "(I)Ljava/lang/Throwable;" } : Jvm.MethodName) ({ cls := "java/lang/Throwable", name := "fillInStackTrace", desc := "(I)Ljava/lang/Throwable;" } : Jvm.MethodName)) ∈ lw_all := lw_g (lw_at lw_m3 214 rfl) rfl
theorem q761 : (Jvm.Cond.lays "EnclosureReferee$ChoiceException" "java/lang/Throwable" "cause" "Ljava/lang/Throwable;") ∈ lw_all := lw_g (lw_at lw_m3 215 rfl) rfl
theorem q762 : (Jvm.Cond.lays "EnclosureReferee$ChoiceException" "java/lang/Throwable" "stackTrace" "[Ljava/lang/StackTraceElement;") ∈ lw_all := lw_g (lw_at lw_m3 216 rfl) rfl
theorem q763 : (Jvm.Cond.lays "EnclosureReferee$ChoiceException" "java/lang/Throwable" "suppressedExceptions" "Ljava/util/List;") ∈ lw_all := lw_g (lw_at lw_m3 217 rfl) rfl
theorem q764 : (Jvm.Cond.lays "EnclosureReferee$ChoiceException" "java/lang/Throwable" "detailMessage" "Ljava/lang/String;") ∈ lw_all := lw_g (lw_at lw_m3 218 rfl) rfl
theorem q765 : (Jvm.Cond.lays "EnclosureReferee$ChoiceException" "java/lang/Throwable" "backtrace" "Ljava/lang/Object;") ∈ lw_all := lw_g (lw_at lw_m3 219 rfl) rfl
theorem q767 : (Jvm.Cond.instanceMethod ({ cls := "EnclosureReferee$ChoiceException", name := "<init>", desc := "(IILEnclosureReferee$CellException;)V" } : Jvm.MethodName)) ∈ lw_all := lw_g (lw_at lw_m3 221 rfl) rfl
theorem q768 : (Jvm.Cond.code ({ cls := "EnclosureReferee$ChoiceException", name := "<init>", desc := "(IILEnclosureReferee$CellException;)V" } : Jvm.MethodName) prog_4_method_1_code (4 : Nat) (Option.none : Option Jvm.ClassFile.FieldType)) ∈ lw_all := lw_g (lw_at lw_m3 222 rfl) rfl
theorem q769 : (Jvm.Cond.methodLink "EnclosureReferee$ChoiceException" (1 : Nat) ({ cls := "EnclosureReferee$RefusedException", name := "<init>", desc := "(IILEnclosureReferee$RefusedException;)V" } : Jvm.MethodName)) ∈ lw_all := lw_g (lw_at lw_m3 223 rfl) rfl
theorem q770 : (Jvm.Cond.laysFinal "EnclosureReferee$ChoiceException" "EnclosureReferee$RefusedException" "code" "I") ∈ lw_all := lw_g (lw_at lw_m3 224 rfl) rfl
theorem q771 : (Jvm.Cond.laysFinal "EnclosureReferee$ChoiceException" "EnclosureReferee$RefusedException" "detail" "I") ∈ lw_all := lw_g (lw_at lw_m3 225 rfl) rfl
theorem q772 : (Jvm.Cond.lays "EnclosureReferee$ChoiceException" "java/lang/Throwable" "depth" "I") ∈ lw_all := lw_g (lw_at lw_m3 226 rfl) rfl
theorem q773 : (Jvm.Cond.superclass "EnclosureReferee$ChoiceException" "EnclosureReferee$RefusedException") ∈ lw_all := lw_g (lw_at lw_m3 227 rfl) rfl
theorem q1109 : (Jvm.Cond.selects "EnclosureReferee$ChoiceException" ({ cls := "EnclosureReferee$RefusedException", name := "part", desc := "(I)I" } : Jvm.MethodName) ({ cls := "EnclosureReferee$RefusedException", name := "part", desc := "(I)I" } : Jvm.MethodName)) ∈ lw_all := lw_g (lw_at lw_m5 83 rfl) rfl
theorem q1892 : (Jvm.Cond.castable "EnclosureReferee$ChoiceException" "EnclosureReferee$RefusedException") ∈ lw_tbl := lw_at lw_m8 146 rfl
theorem q1908 : (Jvm.Cond.castable "EnclosureReferee$ChoiceException" "java/lang/Object") ∈ lw_tbl := lw_at lw_m8 162 rfl
theorem in_X10 : ∀ w ∈ wsX100, w ∈ lw_all := lw_in wsX100 [770, 771, 761, 762, 763, 764, 765, 772] (by decide +kernel) (by decide +kernel)
/-! EnclosureReferee$RoundException -/
set_option maxRecDepth 100000
def RX11 : String := "EnclosureReferee$RoundException"
def TX11 : u_T := fun k => match k with
  | 0 => ("EnclosureReferee$RefusedException", "code", "I", true)
  | 1 => ("EnclosureReferee$RefusedException", "detail", "I", true)
  | 2 => ("java/lang/Throwable", "cause", "Ljava/lang/Throwable;", false)
  | 3 => ("java/lang/Throwable", "stackTrace", "[Ljava/lang/StackTraceElement;", false)
  | 4 => ("java/lang/Throwable", "suppressedExceptions", "Ljava/util/List;", false)
  | 5 => ("java/lang/Throwable", "detailMessage", "Ljava/lang/String;", false)
  | 6 => ("java/lang/Throwable", "backtrace", "Ljava/lang/Object;", false)
  | _ => ("java/lang/Throwable", "depth", "I", false)
def tyX11 : Nat → FieldType := fun k => match k with
  | 0 => .int
  | 1 => .int
  | 2 => .object "java/lang/Throwable"
  | 3 => .array (.object "java/lang/StackTraceElement")
  | 4 => .object "java/util/List"
  | 5 => .object "java/lang/String"
  | 6 => .object "java/lang/Object"
  | _ => .int
abbrev wsX110 : List Cond := u_ws RX11 TX11 8
theorem nmX11 : ∀ a, a < 8 → ∀ b, b < 8 → a ≠ b → (TX11 a).2.1 ≠ (TX11 b).2.1 := by decide +kernel
theorem tyX11_ok : ∀ k, k < 8 → parseFieldDescriptor (TX11 k).2.2.1 = some (tyX11 k) := by decide +kernel
abbrev cX11_init : ByteArray := prog_9_method_1_code
def yX11_init : MethodName := ⟨RX11, "<init>", "(ILEnclosureReferee$ChoiceException;)V"⟩
def dkwX11_init_0 : List UInt8 := [42, 4, 27, 44, 183, 0, 1, 177]
abbrev dktX11_init_0 : List UInt8 := dkwX11_init_0 ++ []
theorem dksX11_init_0 : cX11_init.data.toList.drop 0 = dktX11_init_0 := by decide +kernel
theorem dX11_init_0 : decode cX11_init 0 = .ok (.aload_n 0, 1) := dk_42 (dk_at dksX11_init_0 0 rfl rfl)
theorem dX11_init_1 : decode cX11_init 1 = .ok (.iconst 1, 1) := dk_4 (dk_at dksX11_init_0 1 rfl rfl)
theorem dX11_init_2 : decode cX11_init 2 = .ok (.iload_n 1, 1) := dk_27 (dk_at dksX11_init_0 2 rfl rfl)
theorem dX11_init_3 : decode cX11_init 3 = .ok (.aload_n 2, 1) := dk_44 (dk_at dksX11_init_0 3 rfl rfl)
theorem dX11_init_4 : decode cX11_init 4 = .ok (.invokespecial 1, 3) := dk_183 0 1 (dk_at dksX11_init_0 4 rfl rfl)
theorem dX11_init_7 : decode cX11_init 7 = .ok (.return_, 1) := dk_177 (dk_at dksX11_init_0 7 rfl rfl)
theorem q96 : (Jvm.Cond.initialized "EnclosureReferee$RoundException") ∈ lw_all := lw_g (lw_at lw_m1 30 rfl) rfl
theorem q297 : (Jvm.Cond.selects "EnclosureReferee$RoundException" ({ cls := "java/lang/Object", name := "getClass", desc := "()Ljava/lang/Class;" } : Jvm.MethodName) ({ cls := "java/lang/Object", name := "getClass", desc := "()Ljava/lang/Class;" } : Jvm.MethodName)) ∈ lw_all := lw_g (lw_at lw_m1 231 rfl) rfl
theorem q440 : (Jvm.Cond.selects "EnclosureReferee$RoundException" ({ cls := "EnclosureReferee$RefusedException", name := "levels", desc := "()I" } : Jvm.MethodName) ({ cls := "EnclosureReferee$RefusedException", name := "levels", desc := "()I" } : Jvm.MethodName)) ∈ lw_all := lw_g (lw_at lw_m2 134 rfl) rfl
theorem q448 : (Jvm.Cond.selects "EnclosureReferee$RoundException" ({ cls := "EnclosureReferee$RefusedException", name := "at", desc := "(I)LEnclosureReferee$RefusedException;" } : Jvm.MethodName) ({ cls := "EnclosureReferee$RefusedException", name := "at", desc := "(I)LEnclosureReferee$RefusedException;" } : Jvm.MethodName)) ∈ lw_all := lw_g (lw_at lw_m2 142 rfl) rfl
theorem q456 : (Jvm.Cond.selects "EnclosureReferee$RoundException" ({ cls := "java/lang/Throwable", name := "getCause", desc := "()Ljava/lang/Throwable;" } : Jvm.MethodName) ({ cls := "java/lang/Throwable", name := "getCause", desc := "()Ljava/lang/Throwable;" } : Jvm.MethodName)) ∈ lw_all := lw_g (lw_at lw_m2 150 rfl) rfl
theorem q528 : (Jvm.Cond.selects "EnclosureReferee$RoundException" ({ cls := "java/lang/Throwable", name := "fillInStackTrace", desc := "()Ljava/lang/Throwable;" } : Jvm.MethodName) ({ cls := "java/lang/Throwable", name := "fillInStackTrace", desc := "()Ljava/lang/Throwable;" } : Jvm.MethodName)) ∈ lw_all := lw_g (lw_at lw_m2 222 rfl) rfl
theorem q775 : (Jvm.Cond.instantiable "EnclosureReferee$RoundException" (8 : Nat)) ∈ lw_all := lw_g (lw_at lw_m3 229 rfl) rfl
theorem q776 : (Jvm.Cond.castable "EnclosureReferee$RoundException" "EnclosureReferee$RoundException") ∈ lw_tbl := lw_at lw_m3 230 rfl
theorem q777 : (Jvm.Cond.selects "EnclosureReferee$RoundException" ({ cls := "java/lang/Throwable", name := "fillInStackTrace", desc := "(I)Ljava/lang/Throwable;" } : Jvm.MethodName) ({ cls := "java/lang/Throwable", name := "fillInStackTrace", desc := "(I)Ljava/lang/Throwable;" } : Jvm.MethodName)) ∈ lw_all := lw_g (lw_at lw_m3 231 rfl) rfl
theorem q778 : (Jvm.Cond.lays "EnclosureReferee$RoundException" "java/lang/Throwable" "cause" "Ljava/lang/Throwable;") ∈ lw_all := lw_g (lw_at lw_m3 232 rfl) rfl
theorem q779 : (Jvm.Cond.lays "EnclosureReferee$RoundException" "java/lang/Throwable" "stackTrace" "[Ljava/lang/StackTraceElement;") ∈ lw_all := lw_g (lw_at lw_m3 233 rfl) rfl
theorem q780 : (Jvm.Cond.lays "EnclosureReferee$RoundException" "java/lang/Throwable" "suppressedExceptions" "Ljava/util/List;") ∈ lw_all := lw_g (lw_at lw_m3 234 rfl) rfl
theorem q781 : (Jvm.Cond.lays "EnclosureReferee$RoundException" "java/lang/Throwable" "detailMessage" "Ljava/lang/String;") ∈ lw_all := lw_g (lw_at lw_m3 235 rfl) rfl
theorem q782 : (Jvm.Cond.lays "EnclosureReferee$RoundException" "java/lang/Throwable" "backtrace" "Ljava/lang/Object;") ∈ lw_all := lw_g (lw_at lw_m3 236 rfl) rfl
theorem q784 : (Jvm.Cond.instanceMethod ({ cls := "EnclosureReferee$RoundException", name := "<init>", desc := "(ILEnclosureReferee$ChoiceException;)V" } : Jvm.MethodName)) ∈ lw_all := lw_g (lw_at lw_m3 238 rfl) rfl
theorem q785 : (Jvm.Cond.code ({ cls := "EnclosureReferee$RoundException", name := "<init>", desc := "(ILEnclosureReferee$ChoiceException;)V" } : Jvm.MethodName) prog_9_method_1_code (3 : Nat) (Option.none : Option Jvm.ClassFile.FieldType)) ∈ lw_all := lw_g (lw_at lw_m3 239 rfl) rfl
theorem q786 : (Jvm.Cond.methodLink "EnclosureReferee$RoundException" (1 : Nat) ({ cls := "EnclosureReferee$RefusedException", name := "<init>", desc := "(IILEnclosureReferee$RefusedException;)V" } : Jvm.MethodName)) ∈ lw_all := lw_g (lw_at lw_m4 0 rfl) rfl
theorem q787 : (Jvm.Cond.laysFinal "EnclosureReferee$RoundException" "EnclosureReferee$RefusedException" "code" "I") ∈ lw_all := lw_g (lw_at lw_m4 1 rfl) rfl
theorem q788 : (Jvm.Cond.laysFinal "EnclosureReferee$RoundException" "EnclosureReferee$RefusedException" "detail" "I") ∈ lw_all := lw_g (lw_at lw_m4 2 rfl) rfl
theorem q789 : (Jvm.Cond.lays "EnclosureReferee$RoundException" "java/lang/Throwable" "depth" "I") ∈ lw_all := lw_g (lw_at lw_m4 3 rfl) rfl
theorem q790 : (Jvm.Cond.superclass "EnclosureReferee$RoundException" "EnclosureReferee$RefusedException") ∈ lw_all := lw_g (lw_at lw_m4 4 rfl) rfl
theorem q1110 : (Jvm.Cond.selects "EnclosureReferee$RoundException" ({ cls := "EnclosureReferee$RefusedException", name := "part", desc := "(I)I" } : Jvm.MethodName) ({ cls := "EnclosureReferee$RefusedException", name := "part", desc := "(I)I" } : Jvm.MethodName)) ∈ lw_all := lw_g (lw_at lw_m5 84 rfl) rfl
theorem q1893 : (Jvm.Cond.castable "EnclosureReferee$RoundException" "EnclosureReferee$RefusedException") ∈ lw_tbl := lw_at lw_m8 147 rfl
theorem q1909 : (Jvm.Cond.castable "EnclosureReferee$RoundException" "java/lang/Object") ∈ lw_tbl := lw_at lw_m8 163 rfl
theorem in_X11 : ∀ w ∈ wsX110, w ∈ lw_all := lw_in wsX110 [787, 788, 778, 779, 780, 781, 782, 789] (by decide +kernel) (by decide +kernel)
/-! EnclosureReferee$Reader -/
set_option maxRecDepth 100000
def RX12 : String := "EnclosureReferee$Reader"
def TX12 : u_T := fun k => match k with
  | 0 => ("EnclosureReferee$Reader", "position", "I", false)
  | 1 => ("EnclosureReferee$Reader", "choices", "Ljava/util/ArrayList;", true)
  | _ => ("EnclosureReferee$Reader", "this$0", "LEnclosureReferee;", true)
def tyX12 : Nat → FieldType := fun k => match k with
  | 0 => .int
  | 1 => .object "java/util/ArrayList"
  | _ => .object "EnclosureReferee"
abbrev wsX120 : List Cond := u_ws RX12 TX12 3
theorem nmX12 : ∀ a, a < 3 → ∀ b, b < 3 → a ≠ b → (TX12 a).2.1 ≠ (TX12 b).2.1 := by decide +kernel
theorem tyX12_ok : ∀ k, k < 3 → parseFieldDescriptor (TX12 k).2.2.1 = some (tyX12 k) := by decide +kernel
abbrev cX12_init : ByteArray := prog_6_method_1_code
def yX12_init : MethodName := ⟨RX12, "<init>", "(LEnclosureReferee;)V"⟩
def dkwX12_init_0 : List UInt8 := [42, 43, 181, 0, 3, 42, 183, 0, 9, 42, 187, 0, 15, 89, 183, 0, 17, 181, 0, 18, 177]
abbrev dktX12_init_0 : List UInt8 := dkwX12_init_0 ++ []
theorem dksX12_init_0 : cX12_init.data.toList.drop 0 = dktX12_init_0 := by decide +kernel
theorem dX12_init_0 : decode cX12_init 0 = .ok (.aload_n 0, 1) := dk_42 (dk_at dksX12_init_0 0 rfl rfl)
theorem dX12_init_1 : decode cX12_init 1 = .ok (.aload_n 1, 1) := dk_43 (dk_at dksX12_init_0 1 rfl rfl)
theorem dX12_init_2 : decode cX12_init 2 = .ok (.putfield 3, 3) := dk_181 0 3 (dk_at dksX12_init_0 2 rfl rfl)
theorem dX12_init_5 : decode cX12_init 5 = .ok (.aload_n 0, 1) := dk_42 (dk_at dksX12_init_0 5 rfl rfl)
theorem dX12_init_6 : decode cX12_init 6 = .ok (.invokespecial 9, 3) := dk_183 0 9 (dk_at dksX12_init_0 6 rfl rfl)
theorem dX12_init_9 : decode cX12_init 9 = .ok (.aload_n 0, 1) := dk_42 (dk_at dksX12_init_0 9 rfl rfl)
theorem dX12_init_10 : decode cX12_init 10 = .ok (.new 15, 3) := dk_187 0 15 (dk_at dksX12_init_0 10 rfl rfl)
theorem dX12_init_13 : decode cX12_init 13 = .ok (.dup, 1) := dk_89 (dk_at dksX12_init_0 13 rfl rfl)
theorem dX12_init_14 : decode cX12_init 14 = .ok (.invokespecial 17, 3) := dk_183 0 17 (dk_at dksX12_init_0 14 rfl rfl)
theorem dX12_init_17 : decode cX12_init 17 = .ok (.putfield 18, 3) := dk_181 0 18 (dk_at dksX12_init_0 17 rfl rfl)
theorem dX12_init_20 : decode cX12_init 20 = .ok (.return_, 1) := dk_177 (dk_at dksX12_init_0 20 rfl rfl)
abbrev cX12_read : ByteArray := prog_6_method_6_code
def yX12_read : MethodName := ⟨RX12, "read", "()V"⟩
def dkwX12_read_2 : List UInt8 := [182, 0, 38, 16, 59, 160, 0, 7, 4, 167, 0, 4, 3, 182, 0, 64, 42, 182, 0, 42, 167, 255, 190, 177]
abbrev dktX12_read_2 : List UInt8 := dkwX12_read_2 ++ []
def dkwX12_read_1 : List UInt8 := [184, 0, 74, 182, 0, 80, 60, 42, 180, 0, 18, 42, 182, 0, 71, 184, 0, 74, 182, 0, 80, 60, 42, 42]
abbrev dktX12_read_1 : List UInt8 := dkwX12_read_1 ++ dktX12_read_2
def dkwX12_read_0 : List UInt8 := [42, 180, 0, 22, 42, 180, 0, 3, 180, 0, 26, 162, 0, 58, 42, 180, 0, 18, 42, 182, 0, 71]
abbrev dktX12_read_0 : List UInt8 := dkwX12_read_0 ++ dktX12_read_1
theorem dksX12_read_0 : cX12_read.data.toList.drop 0 = dktX12_read_0 := by decide +kernel
theorem dksX12_read_1 : cX12_read.data.toList.drop 22 = dktX12_read_1 := dk_seg dksX12_read_0 22 rfl rfl
theorem dksX12_read_2 : cX12_read.data.toList.drop 46 = dktX12_read_2 := dk_seg dksX12_read_1 24 rfl rfl
theorem dX12_read_0 : decode cX12_read 0 = .ok (.aload_n 0, 1) := dk_42 (dk_at dksX12_read_0 0 rfl rfl)
theorem dX12_read_1 : decode cX12_read 1 = .ok (.getfield 22, 3) := dk_180 0 22 (dk_at dksX12_read_0 1 rfl rfl)
theorem dX12_read_4 : decode cX12_read 4 = .ok (.aload_n 0, 1) := dk_42 (dk_at dksX12_read_0 4 rfl rfl)
theorem dX12_read_5 : decode cX12_read 5 = .ok (.getfield 3, 3) := dk_180 0 3 (dk_at dksX12_read_0 5 rfl rfl)
theorem dX12_read_8 : decode cX12_read 8 = .ok (.getfield 26, 3) := dk_180 0 26 (dk_at dksX12_read_0 8 rfl rfl)
theorem dX12_read_11 : decode cX12_read 11 = .ok (.if_icmp .ge 58, 3) := dk_162 0 58 (dk_at dksX12_read_0 11 rfl rfl)
theorem dX12_read_14 : decode cX12_read 14 = .ok (.aload_n 0, 1) := dk_42 (dk_at dksX12_read_0 14 rfl rfl)
theorem dX12_read_15 : decode cX12_read 15 = .ok (.getfield 18, 3) := dk_180 0 18 (dk_at dksX12_read_0 15 rfl rfl)
theorem dX12_read_18 : decode cX12_read 18 = .ok (.aload_n 0, 1) := dk_42 (dk_at dksX12_read_0 18 rfl rfl)
theorem dX12_read_19 : decode cX12_read 19 = .ok (.invokevirtual 71, 3) := dk_182 0 71 (dk_at dksX12_read_0 19 rfl rfl)
theorem dX12_read_22 : decode cX12_read 22 = .ok (.invokestatic 74, 3) := dk_184 0 74 (dk_at dksX12_read_1 0 rfl rfl)
theorem dX12_read_25 : decode cX12_read 25 = .ok (.invokevirtual 80, 3) := dk_182 0 80 (dk_at dksX12_read_1 3 rfl rfl)
theorem dX12_read_28 : decode cX12_read 28 = .ok (.istore_n 1, 1) := dk_60 (dk_at dksX12_read_1 6 rfl rfl)
theorem dX12_read_29 : decode cX12_read 29 = .ok (.aload_n 0, 1) := dk_42 (dk_at dksX12_read_1 7 rfl rfl)
theorem dX12_read_30 : decode cX12_read 30 = .ok (.getfield 18, 3) := dk_180 0 18 (dk_at dksX12_read_1 8 rfl rfl)
theorem dX12_read_33 : decode cX12_read 33 = .ok (.aload_n 0, 1) := dk_42 (dk_at dksX12_read_1 11 rfl rfl)
theorem dX12_read_34 : decode cX12_read 34 = .ok (.invokevirtual 71, 3) := dk_182 0 71 (dk_at dksX12_read_1 12 rfl rfl)
theorem dX12_read_37 : decode cX12_read 37 = .ok (.invokestatic 74, 3) := dk_184 0 74 (dk_at dksX12_read_1 15 rfl rfl)
theorem dX12_read_40 : decode cX12_read 40 = .ok (.invokevirtual 80, 3) := dk_182 0 80 (dk_at dksX12_read_1 18 rfl rfl)
theorem dX12_read_43 : decode cX12_read 43 = .ok (.istore_n 1, 1) := dk_60 (dk_at dksX12_read_1 21 rfl rfl)
theorem dX12_read_44 : decode cX12_read 44 = .ok (.aload_n 0, 1) := dk_42 (dk_at dksX12_read_1 22 rfl rfl)
theorem dX12_read_45 : decode cX12_read 45 = .ok (.aload_n 0, 1) := dk_42 (dk_at dksX12_read_1 23 rfl rfl)
theorem dX12_read_46 : decode cX12_read 46 = .ok (.invokevirtual 38, 3) := dk_182 0 38 (dk_at dksX12_read_2 0 rfl rfl)
theorem dX12_read_49 : decode cX12_read 49 = .ok (.bipush 59, 2) := dk_16 59 (dk_at dksX12_read_2 3 rfl rfl)
theorem dX12_read_51 : decode cX12_read 51 = .ok (.if_icmp .ne 7, 3) := dk_160 0 7 (dk_at dksX12_read_2 5 rfl rfl)
theorem dX12_read_54 : decode cX12_read 54 = .ok (.iconst 1, 1) := dk_4 (dk_at dksX12_read_2 8 rfl rfl)
theorem dX12_read_55 : decode cX12_read 55 = .ok (.goto 4, 3) := dk_167 0 4 (dk_at dksX12_read_2 9 rfl rfl)
theorem dX12_read_58 : decode cX12_read 58 = .ok (.iconst 0, 1) := dk_3 (dk_at dksX12_read_2 12 rfl rfl)
theorem dX12_read_59 : decode cX12_read 59 = .ok (.invokevirtual 64, 3) := dk_182 0 64 (dk_at dksX12_read_2 13 rfl rfl)
theorem dX12_read_62 : decode cX12_read 62 = .ok (.aload_n 0, 1) := dk_42 (dk_at dksX12_read_2 16 rfl rfl)
theorem dX12_read_63 : decode cX12_read 63 = .ok (.invokevirtual 42, 3) := dk_182 0 42 (dk_at dksX12_read_2 17 rfl rfl)
theorem dX12_read_66 : decode cX12_read 66 = .ok (.goto (-66), 3) := dk_167 255 190 (dk_at dksX12_read_2 20 rfl rfl)
theorem dX12_read_69 : decode cX12_read 69 = .ok (.return_, 1) := dk_177 (dk_at dksX12_read_2 23 rfl rfl)
abbrev cX12_choice : ByteArray := prog_6_method_5_code
def yX12_choice : MethodName := ⟨RX12, "choice", "()I"⟩
def dkwX12_choice_4 : List UInt8 := [180, 0, 49, 180, 0, 55, 28, 104, 27, 96, 172]
abbrev dktX12_choice_4 : List UInt8 := dkwX12_choice_4 ++ []
def dkwX12_choice_3 : List UInt8 := [180, 0, 68, 4, 100, 184, 0, 60, 182, 0, 64, 42, 182, 0, 42, 42, 180, 0, 3, 180, 0, 45]
abbrev dktX12_choice_3 : List UInt8 := dkwX12_choice_3 ++ dktX12_choice_4
def dkwX12_choice_2 : List UInt8 := [182, 0, 42, 42, 182, 0, 38, 16, 49, 100, 61, 42, 28, 3, 42, 180, 0, 3, 180, 0, 45, 180, 0, 49]
abbrev dktX12_choice_2 : List UInt8 := dkwX12_choice_2 ++ dktX12_choice_3
def dkwX12_choice_1 : List UInt8 := [27, 3, 42, 180, 0, 3, 180, 0, 45, 180, 0, 49, 180, 0, 55, 4, 100, 184, 0, 60, 182, 0, 64, 42]
abbrev dktX12_choice_1 : List UInt8 := dkwX12_choice_1 ++ dktX12_choice_2
def dkwX12_choice_0 : List UInt8 := [42, 182, 0, 38, 16, 45, 160, 0, 9, 42, 182, 0, 42, 2, 172, 42, 182, 0, 38, 16, 97, 100, 60, 42]
abbrev dktX12_choice_0 : List UInt8 := dkwX12_choice_0 ++ dktX12_choice_1
theorem dksX12_choice_0 : cX12_choice.data.toList.drop 0 = dktX12_choice_0 := by decide +kernel
theorem dksX12_choice_1 : cX12_choice.data.toList.drop 24 = dktX12_choice_1 := dk_seg dksX12_choice_0 24 rfl rfl
theorem dksX12_choice_2 : cX12_choice.data.toList.drop 48 = dktX12_choice_2 := dk_seg dksX12_choice_1 24 rfl rfl
theorem dksX12_choice_3 : cX12_choice.data.toList.drop 72 = dktX12_choice_3 := dk_seg dksX12_choice_2 24 rfl rfl
theorem dksX12_choice_4 : cX12_choice.data.toList.drop 94 = dktX12_choice_4 := dk_seg dksX12_choice_3 22 rfl rfl
theorem dX12_choice_0 : decode cX12_choice 0 = .ok (.aload_n 0, 1) := dk_42 (dk_at dksX12_choice_0 0 rfl rfl)
theorem dX12_choice_1 : decode cX12_choice 1 = .ok (.invokevirtual 38, 3) := dk_182 0 38 (dk_at dksX12_choice_0 1 rfl rfl)
theorem dX12_choice_4 : decode cX12_choice 4 = .ok (.bipush 45, 2) := dk_16 45 (dk_at dksX12_choice_0 4 rfl rfl)
theorem dX12_choice_6 : decode cX12_choice 6 = .ok (.if_icmp .ne 9, 3) := dk_160 0 9 (dk_at dksX12_choice_0 6 rfl rfl)
theorem dX12_choice_9 : decode cX12_choice 9 = .ok (.aload_n 0, 1) := dk_42 (dk_at dksX12_choice_0 9 rfl rfl)
theorem dX12_choice_10 : decode cX12_choice 10 = .ok (.invokevirtual 42, 3) := dk_182 0 42 (dk_at dksX12_choice_0 10 rfl rfl)
theorem dX12_choice_13 : decode cX12_choice 13 = .ok (.iconst (-1), 1) := dk_2 (dk_at dksX12_choice_0 13 rfl rfl)
theorem dX12_choice_14 : decode cX12_choice 14 = .ok (.ireturn, 1) := dk_172 (dk_at dksX12_choice_0 14 rfl rfl)
theorem dX12_choice_15 : decode cX12_choice 15 = .ok (.aload_n 0, 1) := dk_42 (dk_at dksX12_choice_0 15 rfl rfl)
theorem dX12_choice_16 : decode cX12_choice 16 = .ok (.invokevirtual 38, 3) := dk_182 0 38 (dk_at dksX12_choice_0 16 rfl rfl)
theorem dX12_choice_19 : decode cX12_choice 19 = .ok (.bipush 97, 2) := dk_16 97 (dk_at dksX12_choice_0 19 rfl rfl)
theorem dX12_choice_21 : decode cX12_choice 21 = .ok (.isub, 1) := dk_100 (dk_at dksX12_choice_0 21 rfl rfl)
theorem dX12_choice_22 : decode cX12_choice 22 = .ok (.istore_n 1, 1) := dk_60 (dk_at dksX12_choice_0 22 rfl rfl)
theorem dX12_choice_23 : decode cX12_choice 23 = .ok (.aload_n 0, 1) := dk_42 (dk_at dksX12_choice_0 23 rfl rfl)
theorem dX12_choice_24 : decode cX12_choice 24 = .ok (.iload_n 1, 1) := dk_27 (dk_at dksX12_choice_1 0 rfl rfl)
theorem dX12_choice_25 : decode cX12_choice 25 = .ok (.iconst 0, 1) := dk_3 (dk_at dksX12_choice_1 1 rfl rfl)
theorem dX12_choice_26 : decode cX12_choice 26 = .ok (.aload_n 0, 1) := dk_42 (dk_at dksX12_choice_1 2 rfl rfl)
theorem dX12_choice_27 : decode cX12_choice 27 = .ok (.getfield 3, 3) := dk_180 0 3 (dk_at dksX12_choice_1 3 rfl rfl)
theorem dX12_choice_30 : decode cX12_choice 30 = .ok (.getfield 45, 3) := dk_180 0 45 (dk_at dksX12_choice_1 6 rfl rfl)
theorem dX12_choice_33 : decode cX12_choice 33 = .ok (.getfield 49, 3) := dk_180 0 49 (dk_at dksX12_choice_1 9 rfl rfl)
theorem dX12_choice_36 : decode cX12_choice 36 = .ok (.getfield 55, 3) := dk_180 0 55 (dk_at dksX12_choice_1 12 rfl rfl)
theorem dX12_choice_39 : decode cX12_choice 39 = .ok (.iconst 1, 1) := dk_4 (dk_at dksX12_choice_1 15 rfl rfl)
theorem dX12_choice_40 : decode cX12_choice 40 = .ok (.isub, 1) := dk_100 (dk_at dksX12_choice_1 16 rfl rfl)
theorem dX12_choice_41 : decode cX12_choice 41 = .ok (.invokestatic 60, 3) := dk_184 0 60 (dk_at dksX12_choice_1 17 rfl rfl)
theorem dX12_choice_44 : decode cX12_choice 44 = .ok (.invokevirtual 64, 3) := dk_182 0 64 (dk_at dksX12_choice_1 20 rfl rfl)
theorem dX12_choice_47 : decode cX12_choice 47 = .ok (.aload_n 0, 1) := dk_42 (dk_at dksX12_choice_1 23 rfl rfl)
theorem dX12_choice_48 : decode cX12_choice 48 = .ok (.invokevirtual 42, 3) := dk_182 0 42 (dk_at dksX12_choice_2 0 rfl rfl)
theorem dX12_choice_51 : decode cX12_choice 51 = .ok (.aload_n 0, 1) := dk_42 (dk_at dksX12_choice_2 3 rfl rfl)
theorem dX12_choice_52 : decode cX12_choice 52 = .ok (.invokevirtual 38, 3) := dk_182 0 38 (dk_at dksX12_choice_2 4 rfl rfl)
theorem dX12_choice_55 : decode cX12_choice 55 = .ok (.bipush 49, 2) := dk_16 49 (dk_at dksX12_choice_2 7 rfl rfl)
theorem dX12_choice_57 : decode cX12_choice 57 = .ok (.isub, 1) := dk_100 (dk_at dksX12_choice_2 9 rfl rfl)
theorem dX12_choice_58 : decode cX12_choice 58 = .ok (.istore_n 2, 1) := dk_61 (dk_at dksX12_choice_2 10 rfl rfl)
theorem dX12_choice_59 : decode cX12_choice 59 = .ok (.aload_n 0, 1) := dk_42 (dk_at dksX12_choice_2 11 rfl rfl)
theorem dX12_choice_60 : decode cX12_choice 60 = .ok (.iload_n 2, 1) := dk_28 (dk_at dksX12_choice_2 12 rfl rfl)
theorem dX12_choice_61 : decode cX12_choice 61 = .ok (.iconst 0, 1) := dk_3 (dk_at dksX12_choice_2 13 rfl rfl)
theorem dX12_choice_62 : decode cX12_choice 62 = .ok (.aload_n 0, 1) := dk_42 (dk_at dksX12_choice_2 14 rfl rfl)
theorem dX12_choice_63 : decode cX12_choice 63 = .ok (.getfield 3, 3) := dk_180 0 3 (dk_at dksX12_choice_2 15 rfl rfl)
theorem dX12_choice_66 : decode cX12_choice 66 = .ok (.getfield 45, 3) := dk_180 0 45 (dk_at dksX12_choice_2 18 rfl rfl)
theorem dX12_choice_69 : decode cX12_choice 69 = .ok (.getfield 49, 3) := dk_180 0 49 (dk_at dksX12_choice_2 21 rfl rfl)
theorem dX12_choice_72 : decode cX12_choice 72 = .ok (.getfield 68, 3) := dk_180 0 68 (dk_at dksX12_choice_3 0 rfl rfl)
theorem dX12_choice_75 : decode cX12_choice 75 = .ok (.iconst 1, 1) := dk_4 (dk_at dksX12_choice_3 3 rfl rfl)
theorem dX12_choice_76 : decode cX12_choice 76 = .ok (.isub, 1) := dk_100 (dk_at dksX12_choice_3 4 rfl rfl)
theorem dX12_choice_77 : decode cX12_choice 77 = .ok (.invokestatic 60, 3) := dk_184 0 60 (dk_at dksX12_choice_3 5 rfl rfl)
theorem dX12_choice_80 : decode cX12_choice 80 = .ok (.invokevirtual 64, 3) := dk_182 0 64 (dk_at dksX12_choice_3 8 rfl rfl)
theorem dX12_choice_83 : decode cX12_choice 83 = .ok (.aload_n 0, 1) := dk_42 (dk_at dksX12_choice_3 11 rfl rfl)
theorem dX12_choice_84 : decode cX12_choice 84 = .ok (.invokevirtual 42, 3) := dk_182 0 42 (dk_at dksX12_choice_3 12 rfl rfl)
theorem dX12_choice_87 : decode cX12_choice 87 = .ok (.aload_n 0, 1) := dk_42 (dk_at dksX12_choice_3 15 rfl rfl)
theorem dX12_choice_88 : decode cX12_choice 88 = .ok (.getfield 3, 3) := dk_180 0 3 (dk_at dksX12_choice_3 16 rfl rfl)
theorem dX12_choice_91 : decode cX12_choice 91 = .ok (.getfield 45, 3) := dk_180 0 45 (dk_at dksX12_choice_3 19 rfl rfl)
theorem dX12_choice_94 : decode cX12_choice 94 = .ok (.getfield 49, 3) := dk_180 0 49 (dk_at dksX12_choice_4 0 rfl rfl)
theorem dX12_choice_97 : decode cX12_choice 97 = .ok (.getfield 55, 3) := dk_180 0 55 (dk_at dksX12_choice_4 3 rfl rfl)
theorem dX12_choice_100 : decode cX12_choice 100 = .ok (.iload_n 2, 1) := dk_28 (dk_at dksX12_choice_4 6 rfl rfl)
theorem dX12_choice_101 : decode cX12_choice 101 = .ok (.imul, 1) := dk_104 (dk_at dksX12_choice_4 7 rfl rfl)
theorem dX12_choice_102 : decode cX12_choice 102 = .ok (.iload_n 1, 1) := dk_27 (dk_at dksX12_choice_4 8 rfl rfl)
theorem dX12_choice_103 : decode cX12_choice 103 = .ok (.iadd, 1) := dk_96 (dk_at dksX12_choice_4 9 rfl rfl)
theorem dX12_choice_104 : decode cX12_choice 104 = .ok (.ireturn, 1) := dk_172 (dk_at dksX12_choice_4 10 rfl rfl)
abbrev cX12_next : ByteArray := prog_6_method_2_code
def yX12_next : MethodName := ⟨RX12, "next", "()I"⟩
def dkwX12_next_1 : List UInt8 := [180, 0, 22, 52, 167, 0, 4, 3, 172]
abbrev dktX12_next_1 : List UInt8 := dkwX12_next_1 ++ []
def dkwX12_next_0 : List UInt8 := [42, 180, 0, 22, 42, 180, 0, 3, 180, 0, 26, 162, 0, 18, 42, 180, 0, 3, 180, 0, 29, 42]
abbrev dktX12_next_0 : List UInt8 := dkwX12_next_0 ++ dktX12_next_1
theorem dksX12_next_0 : cX12_next.data.toList.drop 0 = dktX12_next_0 := by decide +kernel
theorem dksX12_next_1 : cX12_next.data.toList.drop 22 = dktX12_next_1 := dk_seg dksX12_next_0 22 rfl rfl
theorem dX12_next_0 : decode cX12_next 0 = .ok (.aload_n 0, 1) := dk_42 (dk_at dksX12_next_0 0 rfl rfl)
theorem dX12_next_1 : decode cX12_next 1 = .ok (.getfield 22, 3) := dk_180 0 22 (dk_at dksX12_next_0 1 rfl rfl)
theorem dX12_next_4 : decode cX12_next 4 = .ok (.aload_n 0, 1) := dk_42 (dk_at dksX12_next_0 4 rfl rfl)
theorem dX12_next_5 : decode cX12_next 5 = .ok (.getfield 3, 3) := dk_180 0 3 (dk_at dksX12_next_0 5 rfl rfl)
theorem dX12_next_8 : decode cX12_next 8 = .ok (.getfield 26, 3) := dk_180 0 26 (dk_at dksX12_next_0 8 rfl rfl)
theorem dX12_next_11 : decode cX12_next 11 = .ok (.if_icmp .ge 18, 3) := dk_162 0 18 (dk_at dksX12_next_0 11 rfl rfl)
theorem dX12_next_14 : decode cX12_next 14 = .ok (.aload_n 0, 1) := dk_42 (dk_at dksX12_next_0 14 rfl rfl)
theorem dX12_next_15 : decode cX12_next 15 = .ok (.getfield 3, 3) := dk_180 0 3 (dk_at dksX12_next_0 15 rfl rfl)
theorem dX12_next_18 : decode cX12_next 18 = .ok (.getfield 29, 3) := dk_180 0 29 (dk_at dksX12_next_0 18 rfl rfl)
theorem dX12_next_21 : decode cX12_next 21 = .ok (.aload_n 0, 1) := dk_42 (dk_at dksX12_next_0 21 rfl rfl)
theorem dX12_next_22 : decode cX12_next 22 = .ok (.getfield 22, 3) := dk_180 0 22 (dk_at dksX12_next_1 0 rfl rfl)
theorem dX12_next_25 : decode cX12_next 25 = .ok (.caload, 1) := dk_52 (dk_at dksX12_next_1 3 rfl rfl)
theorem dX12_next_26 : decode cX12_next 26 = .ok (.goto 4, 3) := dk_167 0 4 (dk_at dksX12_next_1 4 rfl rfl)
theorem dX12_next_29 : decode cX12_next 29 = .ok (.iconst 0, 1) := dk_3 (dk_at dksX12_next_1 7 rfl rfl)
theorem dX12_next_30 : decode cX12_next 30 = .ok (.ireturn, 1) := dk_172 (dk_at dksX12_next_1 8 rfl rfl)
abbrev cX12_take : ByteArray := prog_6_method_4_code
def yX12_take : MethodName := ⟨RX12, "take", "()V"⟩
def dkwX12_take_0 : List UInt8 := [42, 89, 180, 0, 22, 4, 96, 181, 0, 22, 177]
abbrev dktX12_take_0 : List UInt8 := dkwX12_take_0 ++ []
theorem dksX12_take_0 : cX12_take.data.toList.drop 0 = dktX12_take_0 := by decide +kernel
theorem dX12_take_0 : decode cX12_take 0 = .ok (.aload_n 0, 1) := dk_42 (dk_at dksX12_take_0 0 rfl rfl)
theorem dX12_take_1 : decode cX12_take 1 = .ok (.dup, 1) := dk_89 (dk_at dksX12_take_0 1 rfl rfl)
theorem dX12_take_2 : decode cX12_take 2 = .ok (.getfield 22, 3) := dk_180 0 22 (dk_at dksX12_take_0 2 rfl rfl)
theorem dX12_take_5 : decode cX12_take 5 = .ok (.iconst 1, 1) := dk_4 (dk_at dksX12_take_0 5 rfl rfl)
theorem dX12_take_6 : decode cX12_take 6 = .ok (.iadd, 1) := dk_96 (dk_at dksX12_take_0 6 rfl rfl)
theorem dX12_take_7 : decode cX12_take 7 = .ok (.putfield 22, 3) := dk_181 0 22 (dk_at dksX12_take_0 7 rfl rfl)
theorem dX12_take_10 : decode cX12_take 10 = .ok (.return_, 1) := dk_177 (dk_at dksX12_take_0 10 rfl rfl)
abbrev cX12_need : ByteArray := prog_6_method_3_code
def yX12_need : MethodName := ⟨RX12, "need", "(Z)V"⟩
def dkwX12_need_0 : List UInt8 := [27, 154, 0, 15, 187, 0, 33, 89, 42, 180, 0, 22, 183, 0, 35, 191, 177]
abbrev dktX12_need_0 : List UInt8 := dkwX12_need_0 ++ []
theorem dksX12_need_0 : cX12_need.data.toList.drop 0 = dktX12_need_0 := by decide +kernel
theorem dX12_need_0 : decode cX12_need 0 = .ok (.iload_n 1, 1) := dk_27 (dk_at dksX12_need_0 0 rfl rfl)
theorem dX12_need_1 : decode cX12_need 1 = .ok (.ifCond .ne 15, 3) := dk_154 0 15 (dk_at dksX12_need_0 1 rfl rfl)
theorem dX12_need_4 : decode cX12_need 4 = .ok (.new 33, 3) := dk_187 0 33 (dk_at dksX12_need_0 4 rfl rfl)
theorem dX12_need_7 : decode cX12_need 7 = .ok (.dup, 1) := dk_89 (dk_at dksX12_need_0 7 rfl rfl)
theorem dX12_need_8 : decode cX12_need 8 = .ok (.aload_n 0, 1) := dk_42 (dk_at dksX12_need_0 8 rfl rfl)
theorem dX12_need_9 : decode cX12_need 9 = .ok (.getfield 22, 3) := dk_180 0 22 (dk_at dksX12_need_0 9 rfl rfl)
theorem dX12_need_12 : decode cX12_need 12 = .ok (.invokespecial 35, 3) := dk_183 0 35 (dk_at dksX12_need_0 12 rfl rfl)
theorem dX12_need_15 : decode cX12_need 15 = .ok (.athrow, 1) := dk_191 (dk_at dksX12_need_0 15 rfl rfl)
theorem dX12_need_16 : decode cX12_need 16 = .ok (.return_, 1) := dk_177 (dk_at dksX12_need_0 16 rfl rfl)
theorem q100 : (Jvm.Cond.initialized "EnclosureReferee$Reader") ∈ lw_all := lw_g (lw_at lw_m1 34 rfl) rfl
theorem q188 : (Jvm.Cond.fieldLinkNest "EnclosureReferee$Reader" (55 : Nat) "EnclosureReferee$Shape" "width" "I" "EnclosureReferee") ∈ lw_tbl := lw_at lw_m1 122 rfl
theorem q191 : (Jvm.Cond.fieldLinkNest "EnclosureReferee$Reader" (68 : Nat) "EnclosureReferee$Shape" "height" "I" "EnclosureReferee") ∈ lw_tbl := lw_at lw_m1 125 rfl
theorem q295 : (Jvm.Cond.selects "EnclosureReferee$Reader" ({ cls := "java/lang/Object", name := "getClass", desc := "()Ljava/lang/Class;" } : Jvm.MethodName) ({ cls := "java/lang/Object", name := "getClass", desc := "()Ljava/lang/Class;" } : Jvm.MethodName)) ∈ lw_all := lw_g (lw_at lw_m1 229 rfl) rfl
theorem q328 : (Jvm.Cond.fieldLinkNest "EnclosureReferee$Reader" (49 : Nat) "EnclosureReferee$Game" "shape" "LEnclosureReferee$Shape;" "EnclosureReferee") ∈ lw_tbl := lw_at lw_m2 22 rfl
theorem q349 : (Jvm.Cond.fieldLinkNest "EnclosureReferee$Reader" (45 : Nat) "EnclosureReferee" "game" "LEnclosureReferee$Game;" "EnclosureReferee") ∈ lw_tbl := lw_at lw_m2 43 rfl
theorem q353 : (Jvm.Cond.fieldLinkNest "EnclosureReferee$Reader" (29 : Nat) "EnclosureReferee" "input" "[C" "EnclosureReferee") ∈ lw_tbl := lw_at lw_m2 47 rfl
theorem q355 : (Jvm.Cond.fieldLinkNest "EnclosureReferee$Reader" (26 : Nat) "EnclosureReferee" "inputLength" "I" "EnclosureReferee") ∈ lw_tbl := lw_at lw_m2 49 rfl
theorem q1129 : (Jvm.Cond.instantiable "EnclosureReferee$Reader" (3 : Nat)) ∈ lw_all := lw_g (lw_at lw_m5 103 rfl) rfl
theorem q1131 : (Jvm.Cond.instanceMethod ({ cls := "EnclosureReferee$Reader", name := "<init>", desc := "(LEnclosureReferee;)V" } : Jvm.MethodName)) ∈ lw_all := lw_g (lw_at lw_m5 105 rfl) rfl
theorem q1132 : (Jvm.Cond.code ({ cls := "EnclosureReferee$Reader", name := "<init>", desc := "(LEnclosureReferee;)V" } : Jvm.MethodName) prog_6_method_1_code (2 : Nat) (Option.none : Option Jvm.ClassFile.FieldType)) ∈ lw_all := lw_g (lw_at lw_m5 106 rfl) rfl
theorem q1133 : (Jvm.Cond.methodLink "EnclosureReferee$Reader" (9 : Nat) ({ cls := "java/lang/Object", name := "<init>", desc := "()V" } : Jvm.MethodName)) ∈ lw_all := lw_g (lw_at lw_m5 107 rfl) rfl
theorem q1134 : (Jvm.Cond.classLink "EnclosureReferee$Reader" (15 : Nat) "java/util/ArrayList") ∈ lw_all := lw_g (lw_at lw_m5 108 rfl) rfl
theorem q1135 : (Jvm.Cond.methodLink "EnclosureReferee$Reader" (17 : Nat) ({ cls := "java/util/ArrayList", name := "<init>", desc := "()V" } : Jvm.MethodName)) ∈ lw_all := lw_g (lw_at lw_m5 109 rfl) rfl
theorem q1136 : (Jvm.Cond.fieldLink "EnclosureReferee$Reader" (22 : Nat) "EnclosureReferee$Reader" "position" "I") ∈ lw_all := lw_g (lw_at lw_m5 110 rfl) rfl
theorem q1137 : (Jvm.Cond.fieldLink "EnclosureReferee$Reader" (18 : Nat) "EnclosureReferee$Reader" "choices" "Ljava/util/ArrayList;") ∈ lw_all := lw_g (lw_at lw_m5 111 rfl) rfl
theorem q1139 : (Jvm.Cond.fieldLink "EnclosureReferee$Reader" (3 : Nat) "EnclosureReferee$Reader" "this$0" "LEnclosureReferee;") ∈ lw_all := lw_g (lw_at lw_m5 113 rfl) rfl
theorem q1140 : (Jvm.Cond.lays "EnclosureReferee$Reader" "EnclosureReferee$Reader" "position" "I") ∈ lw_all := lw_g (lw_at lw_m5 114 rfl) rfl
theorem q1141 : (Jvm.Cond.soleField "EnclosureReferee$Reader" "position") ∈ lw_all := lw_g (lw_at lw_m5 115 rfl) rfl
theorem q1142 : (Jvm.Cond.laysFinal "EnclosureReferee$Reader" "EnclosureReferee$Reader" "choices" "Ljava/util/ArrayList;") ∈ lw_all := lw_g (lw_at lw_m5 116 rfl) rfl
theorem q1143 : (Jvm.Cond.soleField "EnclosureReferee$Reader" "choices") ∈ lw_all := lw_g (lw_at lw_m5 117 rfl) rfl
theorem q1144 : (Jvm.Cond.laysFinal "EnclosureReferee$Reader" "EnclosureReferee$Reader" "this$0" "LEnclosureReferee;") ∈ lw_all := lw_g (lw_at lw_m5 118 rfl) rfl
theorem q1145 : (Jvm.Cond.soleField "EnclosureReferee$Reader" "this$0") ∈ lw_all := lw_g (lw_at lw_m5 119 rfl) rfl
theorem q1146 : (Jvm.Cond.superclass "EnclosureReferee$Reader" "java/lang/Object") ∈ lw_all := lw_g (lw_at lw_m5 120 rfl) rfl
theorem q1148 : (Jvm.Cond.instanceMethod ({ cls := "EnclosureReferee$Reader", name := "read", desc := "()V" } : Jvm.MethodName)) ∈ lw_all := lw_g (lw_at lw_m5 122 rfl) rfl
theorem q1149 : (Jvm.Cond.selects "EnclosureReferee$Reader" ({ cls := "EnclosureReferee$Reader", name := "read", desc := "()V" } : Jvm.MethodName) ({ cls := "EnclosureReferee$Reader", name := "read", desc := "()V" } : Jvm.MethodName)) ∈ lw_all := lw_g (lw_at lw_m5 123 rfl) rfl
theorem q1150 : (Jvm.Cond.code ({ cls := "EnclosureReferee$Reader", name := "read", desc := "()V" } : Jvm.MethodName) prog_6_method_6_code (2 : Nat) (Option.none : Option Jvm.ClassFile.FieldType)) ∈ lw_all := lw_g (lw_at lw_m5 124 rfl) rfl
theorem q1151 : (Jvm.Cond.methodLink "EnclosureReferee$Reader" (71 : Nat) ({ cls := "EnclosureReferee$Reader", name := "choice", desc := "()I" } : Jvm.MethodName)) ∈ lw_all := lw_g (lw_at lw_m5 125 rfl) rfl
theorem q1152 : (Jvm.Cond.privateMethod ({ cls := "EnclosureReferee$Reader", name := "choice", desc := "()I" } : Jvm.MethodName)) ∈ lw_tbl := lw_at lw_m5 126 rfl
theorem q1153 : (Jvm.Cond.instanceMethod ({ cls := "EnclosureReferee$Reader", name := "choice", desc := "()I" } : Jvm.MethodName)) ∈ lw_all := lw_g (lw_at lw_m5 127 rfl) rfl
theorem q1154 : (Jvm.Cond.code ({ cls := "EnclosureReferee$Reader", name := "choice", desc := "()I" } : Jvm.MethodName) prog_6_method_5_code (3 : Nat) (Option.some Jvm.ClassFile.FieldType.int)) ∈ lw_all := lw_g (lw_at lw_m5 128 rfl) rfl
theorem q1155 : (Jvm.Cond.methodLink "EnclosureReferee$Reader" (38 : Nat) ({ cls := "EnclosureReferee$Reader", name := "next", desc := "()I" } : Jvm.MethodName)) ∈ lw_all := lw_g (lw_at lw_m5 129 rfl) rfl
theorem q1156 : (Jvm.Cond.privateMethod ({ cls := "EnclosureReferee$Reader", name := "next", desc := "()I" } : Jvm.MethodName)) ∈ lw_tbl := lw_at lw_m5 130 rfl
theorem q1157 : (Jvm.Cond.instanceMethod ({ cls := "EnclosureReferee$Reader", name := "next", desc := "()I" } : Jvm.MethodName)) ∈ lw_all := lw_g (lw_at lw_m5 131 rfl) rfl
theorem q1158 : (Jvm.Cond.code ({ cls := "EnclosureReferee$Reader", name := "next", desc := "()I" } : Jvm.MethodName) prog_6_method_2_code (1 : Nat) (Option.some Jvm.ClassFile.FieldType.int)) ∈ lw_all := lw_g (lw_at lw_m5 132 rfl) rfl
theorem q1159 : (Jvm.Cond.methodLink "EnclosureReferee$Reader" (42 : Nat) ({ cls := "EnclosureReferee$Reader", name := "take", desc := "()V" } : Jvm.MethodName)) ∈ lw_all := lw_g (lw_at lw_m5 133 rfl) rfl
theorem q1160 : (Jvm.Cond.privateMethod ({ cls := "EnclosureReferee$Reader", name := "take", desc := "()V" } : Jvm.MethodName)) ∈ lw_tbl := lw_at lw_m5 134 rfl
theorem q1161 : (Jvm.Cond.instanceMethod ({ cls := "EnclosureReferee$Reader", name := "take", desc := "()V" } : Jvm.MethodName)) ∈ lw_all := lw_g (lw_at lw_m5 135 rfl) rfl
theorem q1162 : (Jvm.Cond.code ({ cls := "EnclosureReferee$Reader", name := "take", desc := "()V" } : Jvm.MethodName) prog_6_method_4_code (1 : Nat) (Option.none : Option Jvm.ClassFile.FieldType)) ∈ lw_all := lw_g (lw_at lw_m5 136 rfl) rfl
theorem q1163 : (Jvm.Cond.methodLinkNest "EnclosureReferee$Reader" (60 : Nat) ({ cls := "EnclosureReferee", name := "inRange", desc := "(III)Z" } : Jvm.MethodName) "EnclosureReferee") ∈ lw_tbl := lw_at lw_m5 137 rfl
theorem q1164 : (Jvm.Cond.methodLink "EnclosureReferee$Reader" (64 : Nat) ({ cls := "EnclosureReferee$Reader", name := "need", desc := "(Z)V" } : Jvm.MethodName)) ∈ lw_all := lw_g (lw_at lw_m5 138 rfl) rfl
theorem q1165 : (Jvm.Cond.privateMethod ({ cls := "EnclosureReferee$Reader", name := "need", desc := "(Z)V" } : Jvm.MethodName)) ∈ lw_tbl := lw_at lw_m5 139 rfl
theorem q1166 : (Jvm.Cond.instanceMethod ({ cls := "EnclosureReferee$Reader", name := "need", desc := "(Z)V" } : Jvm.MethodName)) ∈ lw_all := lw_g (lw_at lw_m5 140 rfl) rfl
theorem q1167 : (Jvm.Cond.code ({ cls := "EnclosureReferee$Reader", name := "need", desc := "(Z)V" } : Jvm.MethodName) prog_6_method_3_code (2 : Nat) (Option.none : Option Jvm.ClassFile.FieldType)) ∈ lw_all := lw_g (lw_at lw_m5 141 rfl) rfl
theorem q1168 : (Jvm.Cond.classLink "EnclosureReferee$Reader" (33 : Nat) "EnclosureReferee$TextException") ∈ lw_all := lw_g (lw_at lw_m5 142 rfl) rfl
theorem q1177 : (Jvm.Cond.methodLink "EnclosureReferee$Reader" (35 : Nat) ({ cls := "EnclosureReferee$TextException", name := "<init>", desc := "(I)V" } : Jvm.MethodName)) ∈ lw_all := lw_g (lw_at lw_m5 151 rfl) rfl
theorem q1187 : (Jvm.Cond.methodLink "EnclosureReferee$Reader" (74 : Nat) ({ cls := "java/lang/Integer", name := "valueOf", desc := "(I)Ljava/lang/Integer;" } : Jvm.MethodName)) ∈ lw_all := lw_g (lw_at lw_m5 161 rfl) rfl
theorem q1207 : (Jvm.Cond.methodLink "EnclosureReferee$Reader" (80 : Nat) ({ cls := "java/util/ArrayList", name := "add", desc := "(Ljava/lang/Object;)Z" } : Jvm.MethodName)) ∈ lw_all := lw_g (lw_at lw_m5 181 rfl) rfl
theorem q1912 : (Jvm.Cond.castable "EnclosureReferee$Reader" "java/lang/Object") ∈ lw_tbl := lw_at lw_m8 166 rfl
theorem in_X12 : ∀ w ∈ wsX120, w ∈ lw_all := lw_in wsX120 [1140, 1142, 1144] (by decide +kernel) (by decide +kernel)
/-! EnclosureReferee$TextException -/
set_option maxRecDepth 100000
def RX13 : String := "EnclosureReferee$TextException"
def TX13 : u_T := fun k => match k with
  | 0 => ("java/lang/Throwable", "cause", "Ljava/lang/Throwable;", false)
  | 1 => ("java/lang/Throwable", "stackTrace", "[Ljava/lang/StackTraceElement;", false)
  | 2 => ("java/lang/Throwable", "suppressedExceptions", "Ljava/util/List;", false)
  | 3 => ("java/lang/Throwable", "detailMessage", "Ljava/lang/String;", false)
  | 4 => ("java/lang/Throwable", "backtrace", "Ljava/lang/Object;", false)
  | 5 => ("java/lang/Throwable", "depth", "I", false)
  | _ => ("EnclosureReferee$TextException", "position", "I", true)
def tyX13 : Nat → FieldType := fun k => match k with
  | 0 => .object "java/lang/Throwable"
  | 1 => .array (.object "java/lang/StackTraceElement")
  | 2 => .object "java/util/List"
  | 3 => .object "java/lang/String"
  | 4 => .object "java/lang/Object"
  | 5 => .int
  | _ => .int
abbrev wsX130 : List Cond := u_ws RX13 TX13 7
theorem nmX13 : ∀ a, a < 7 → ∀ b, b < 7 → a ≠ b → (TX13 a).2.1 ≠ (TX13 b).2.1 := by decide +kernel
theorem tyX13_ok : ∀ k, k < 7 → parseFieldDescriptor (TX13 k).2.2.1 = some (tyX13 k) := by decide +kernel
abbrev cX13_init : ByteArray := prog_11_method_1_code
def yX13_init : MethodName := ⟨RX13, "<init>", "(I)V"⟩
def dkwX13_init_0 : List UInt8 := [42, 1, 1, 3, 3, 183, 0, 1, 42, 27, 181, 0, 7, 177]
abbrev dktX13_init_0 : List UInt8 := dkwX13_init_0 ++ []
theorem dksX13_init_0 : cX13_init.data.toList.drop 0 = dktX13_init_0 := by decide +kernel
theorem dX13_init_0 : decode cX13_init 0 = .ok (.aload_n 0, 1) := dk_42 (dk_at dksX13_init_0 0 rfl rfl)
theorem dX13_init_1 : decode cX13_init 1 = .ok (.aconst_null, 1) := dk_1 (dk_at dksX13_init_0 1 rfl rfl)
theorem dX13_init_2 : decode cX13_init 2 = .ok (.aconst_null, 1) := dk_1 (dk_at dksX13_init_0 2 rfl rfl)
theorem dX13_init_3 : decode cX13_init 3 = .ok (.iconst 0, 1) := dk_3 (dk_at dksX13_init_0 3 rfl rfl)
theorem dX13_init_4 : decode cX13_init 4 = .ok (.iconst 0, 1) := dk_3 (dk_at dksX13_init_0 4 rfl rfl)
theorem dX13_init_5 : decode cX13_init 5 = .ok (.invokespecial 1, 3) := dk_183 0 1 (dk_at dksX13_init_0 5 rfl rfl)
theorem dX13_init_8 : decode cX13_init 8 = .ok (.aload_n 0, 1) := dk_42 (dk_at dksX13_init_0 8 rfl rfl)
theorem dX13_init_9 : decode cX13_init 9 = .ok (.iload_n 1, 1) := dk_27 (dk_at dksX13_init_0 9 rfl rfl)
theorem dX13_init_10 : decode cX13_init 10 = .ok (.putfield 7, 3) := dk_181 0 7 (dk_at dksX13_init_0 10 rfl rfl)
theorem dX13_init_13 : decode cX13_init 13 = .ok (.return_, 1) := dk_177 (dk_at dksX13_init_0 13 rfl rfl)
theorem q101 : (Jvm.Cond.initialized "EnclosureReferee$TextException") ∈ lw_all := lw_g (lw_at lw_m1 35 rfl) rfl
theorem q299 : (Jvm.Cond.selects "EnclosureReferee$TextException" ({ cls := "java/lang/Object", name := "getClass", desc := "()Ljava/lang/Class;" } : Jvm.MethodName) ({ cls := "java/lang/Object", name := "getClass", desc := "()Ljava/lang/Class;" } : Jvm.MethodName)) ∈ lw_all := lw_g (lw_at lw_m1 233 rfl) rfl
theorem q457 : (Jvm.Cond.selects "EnclosureReferee$TextException" ({ cls := "java/lang/Throwable", name := "getCause", desc := "()Ljava/lang/Throwable;" } : Jvm.MethodName) ({ cls := "java/lang/Throwable", name := "getCause", desc := "()Ljava/lang/Throwable;" } : Jvm.MethodName)) ∈ lw_all := lw_g (lw_at lw_m2 151 rfl) rfl
theorem q529 : (Jvm.Cond.selects "EnclosureReferee$TextException" ({ cls := "java/lang/Throwable", name := "fillInStackTrace", desc := "()Ljava/lang/Throwable;" } : Jvm.MethodName) ({ cls := "java/lang/Throwable", name := "fillInStackTrace", desc := "()Ljava/lang/Throwable;" } : Jvm.MethodName)) ∈ lw_all := lw_g (lw_at lw_m2 223 rfl) rfl
theorem q1169 : (Jvm.Cond.instantiable "EnclosureReferee$TextException" (7 : Nat)) ∈ lw_all := lw_g (lw_at lw_m5 143 rfl) rfl
theorem q1170 : (Jvm.Cond.castable "EnclosureReferee$TextException" "EnclosureReferee$TextException") ∈ lw_tbl := lw_at lw_m5 144 rfl
theorem q1171 : (Jvm.Cond.selects "EnclosureReferee$TextException" ({ cls := "java/lang/Throwable", name := "fillInStackTrace", desc := "(I)Ljava/lang/Throwable;" } : Jvm.MethodName) ({ cls := "java/lang/Throwable", name := "fillInStackTrace", desc := "(I)Ljava/lang/Throwable;" } : Jvm.MethodName)) ∈ lw_all := lw_g (lw_at lw_m5 145 rfl) rfl
theorem q1172 : (Jvm.Cond.lays "EnclosureReferee$TextException" "java/lang/Throwable" "cause" "Ljava/lang/Throwable;") ∈ lw_all := lw_g (lw_at lw_m5 146 rfl) rfl
theorem q1173 : (Jvm.Cond.lays "EnclosureReferee$TextException" "java/lang/Throwable" "stackTrace" "[Ljava/lang/StackTraceElement;") ∈ lw_all := lw_g (lw_at lw_m5 147 rfl) rfl
theorem q1174 : (Jvm.Cond.lays "EnclosureReferee$TextException" "java/lang/Throwable" "suppressedExceptions" "Ljava/util/List;") ∈ lw_all := lw_g (lw_at lw_m5 148 rfl) rfl
theorem q1175 : (Jvm.Cond.lays "EnclosureReferee$TextException" "java/lang/Throwable" "detailMessage" "Ljava/lang/String;") ∈ lw_all := lw_g (lw_at lw_m5 149 rfl) rfl
theorem q1176 : (Jvm.Cond.lays "EnclosureReferee$TextException" "java/lang/Throwable" "backtrace" "Ljava/lang/Object;") ∈ lw_all := lw_g (lw_at lw_m5 150 rfl) rfl
theorem q1178 : (Jvm.Cond.instanceMethod ({ cls := "EnclosureReferee$TextException", name := "<init>", desc := "(I)V" } : Jvm.MethodName)) ∈ lw_all := lw_g (lw_at lw_m5 152 rfl) rfl
theorem q1179 : (Jvm.Cond.code ({ cls := "EnclosureReferee$TextException", name := "<init>", desc := "(I)V" } : Jvm.MethodName) prog_11_method_1_code (2 : Nat) (Option.none : Option Jvm.ClassFile.FieldType)) ∈ lw_all := lw_g (lw_at lw_m5 153 rfl) rfl
theorem q1180 : (Jvm.Cond.methodLink "EnclosureReferee$TextException" (1 : Nat) ({ cls := "java/lang/Exception", name := "<init>", desc := "(Ljava/lang/String;Ljava/lang/Throwable;ZZ)V" } : Jvm.MethodName)) ∈ lw_all := lw_g (lw_at lw_m5 154 rfl) rfl
theorem q1181 : (Jvm.Cond.fieldLink "EnclosureReferee$TextException" (7 : Nat) "EnclosureReferee$TextException" "position" "I") ∈ lw_all := lw_g (lw_at lw_m5 155 rfl) rfl
theorem q1183 : (Jvm.Cond.laysFinal "EnclosureReferee$TextException" "EnclosureReferee$TextException" "position" "I") ∈ lw_all := lw_g (lw_at lw_m5 157 rfl) rfl
theorem q1184 : (Jvm.Cond.soleField "EnclosureReferee$TextException" "position") ∈ lw_all := lw_g (lw_at lw_m5 158 rfl) rfl
theorem q1185 : (Jvm.Cond.lays "EnclosureReferee$TextException" "java/lang/Throwable" "depth" "I") ∈ lw_all := lw_g (lw_at lw_m5 159 rfl) rfl
theorem q1186 : (Jvm.Cond.superclass "EnclosureReferee$TextException" "java/lang/Exception") ∈ lw_all := lw_g (lw_at lw_m5 160 rfl) rfl
theorem q1913 : (Jvm.Cond.castable "EnclosureReferee$TextException" "java/lang/Object") ∈ lw_tbl := lw_at lw_m8 167 rfl
theorem in_X13 : ∀ w ∈ wsX130, w ∈ lw_all := lw_in wsX130 [1172, 1173, 1174, 1175, 1176, 1185, 1183] (by decide +kernel) (by decide +kernel)
/-! EnclosureReferee$Game -/
set_option maxRecDepth 100000
def RX2 : String := "EnclosureReferee$Game"
def TX2 : u_T := fun k => match k with
  | 0 => ("EnclosureReferee$Game", "shape", "LEnclosureReferee$Shape;", true)
  | 1 => ("EnclosureReferee$Game", "positions", "Ljava/util/ArrayList;", true)
  | 2 => ("EnclosureReferee$Game", "rule", "I", false)
  | 3 => ("EnclosureReferee$Game", "bonuses", "[I", true)
  | _ => ("EnclosureReferee$Game", "tried", "[LEnclosureReferee$Board;", true)
def tyX2 : Nat → FieldType := fun k => match k with
  | 0 => .object "EnclosureReferee$Shape"
  | 1 => .object "java/util/ArrayList"
  | 2 => .int
  | 3 => .array .int
  | _ => .array (.object "EnclosureReferee$Board")
abbrev wsX20 : List Cond := u_ws RX2 TX2 5
theorem nmX2 : ∀ a, a < 5 → ∀ b, b < 5 → a ≠ b → (TX2 a).2.1 ≠ (TX2 b).2.1 := by decide +kernel
theorem tyX2_ok : ∀ k, k < 5 → parseFieldDescriptor (TX2 k).2.2.1 = some (tyX2 k) := by decide +kernel
abbrev cX2_init : ByteArray := prog_5_method_1_code
def yX2_init : MethodName := ⟨RX2, "<init>", "(III)V"⟩
def dkwX2_init_4 : List UInt8 := [177]
abbrev dktX2_init_4 : List UInt8 := dkwX2_init_4 ++ []
def dkwX2_init_3 : List UInt8 := [181, 0, 34, 42, 180, 0, 12, 187, 0, 38, 89, 42, 180, 0, 34, 29, 183, 0, 40, 182, 0, 43, 54, 4]
abbrev dktX2_init_3 : List UInt8 := dkwX2_init_3 ++ dktX2_init_4
def dkwX2_init_2 : List UInt8 := [5, 187, 0, 22, 89, 183, 0, 24, 83, 181, 0, 25, 42, 187, 0, 29, 89, 27, 28, 183, 0, 31]
abbrev dktX2_init_2 : List UInt8 := dkwX2_init_2 ++ dktX2_init_3
def dkwX2_init_1 : List UInt8 := [189, 0, 22, 89, 3, 187, 0, 22, 89, 183, 0, 24, 83, 89, 4, 187, 0, 22, 89, 183, 0, 24, 83, 89]
abbrev dktX2_init_1 : List UInt8 := dkwX2_init_1 ++ dktX2_init_2
def dkwX2_init_0 : List UInt8 := [42, 183, 0, 3, 42, 187, 0, 9, 89, 183, 0, 11, 181, 0, 12, 42, 5, 188, 10, 181, 0, 18, 42, 6]
abbrev dktX2_init_0 : List UInt8 := dkwX2_init_0 ++ dktX2_init_1
theorem dksX2_init_0 : cX2_init.data.toList.drop 0 = dktX2_init_0 := by decide +kernel
theorem dksX2_init_1 : cX2_init.data.toList.drop 24 = dktX2_init_1 := dk_seg dksX2_init_0 24 rfl rfl
theorem dksX2_init_2 : cX2_init.data.toList.drop 48 = dktX2_init_2 := dk_seg dksX2_init_1 24 rfl rfl
theorem dksX2_init_3 : cX2_init.data.toList.drop 70 = dktX2_init_3 := dk_seg dksX2_init_2 22 rfl rfl
theorem dksX2_init_4 : cX2_init.data.toList.drop 94 = dktX2_init_4 := dk_seg dksX2_init_3 24 rfl rfl
theorem dX2_init_0 : decode cX2_init 0 = .ok (.aload_n 0, 1) := dk_42 (dk_at dksX2_init_0 0 rfl rfl)
theorem dX2_init_1 : decode cX2_init 1 = .ok (.invokespecial 3, 3) := dk_183 0 3 (dk_at dksX2_init_0 1 rfl rfl)
theorem dX2_init_4 : decode cX2_init 4 = .ok (.aload_n 0, 1) := dk_42 (dk_at dksX2_init_0 4 rfl rfl)
theorem dX2_init_5 : decode cX2_init 5 = .ok (.new 9, 3) := dk_187 0 9 (dk_at dksX2_init_0 5 rfl rfl)
theorem dX2_init_8 : decode cX2_init 8 = .ok (.dup, 1) := dk_89 (dk_at dksX2_init_0 8 rfl rfl)
theorem dX2_init_9 : decode cX2_init 9 = .ok (.invokespecial 11, 3) := dk_183 0 11 (dk_at dksX2_init_0 9 rfl rfl)
theorem dX2_init_12 : decode cX2_init 12 = .ok (.putfield 12, 3) := dk_181 0 12 (dk_at dksX2_init_0 12 rfl rfl)
theorem dX2_init_15 : decode cX2_init 15 = .ok (.aload_n 0, 1) := dk_42 (dk_at dksX2_init_0 15 rfl rfl)
theorem dX2_init_16 : decode cX2_init 16 = .ok (.iconst 2, 1) := dk_5 (dk_at dksX2_init_0 16 rfl rfl)
theorem dX2_init_17 : decode cX2_init 17 = .ok (.newarray .int, 2) := dk_188_10 (dk_at dksX2_init_0 17 rfl rfl)
theorem dX2_init_19 : decode cX2_init 19 = .ok (.putfield 18, 3) := dk_181 0 18 (dk_at dksX2_init_0 19 rfl rfl)
theorem dX2_init_22 : decode cX2_init 22 = .ok (.aload_n 0, 1) := dk_42 (dk_at dksX2_init_0 22 rfl rfl)
theorem dX2_init_23 : decode cX2_init 23 = .ok (.iconst 3, 1) := dk_6 (dk_at dksX2_init_0 23 rfl rfl)
theorem dX2_init_24 : decode cX2_init 24 = .ok (.anewarray 22, 3) := dk_189 0 22 (dk_at dksX2_init_1 0 rfl rfl)
theorem dX2_init_27 : decode cX2_init 27 = .ok (.dup, 1) := dk_89 (dk_at dksX2_init_1 3 rfl rfl)
theorem dX2_init_28 : decode cX2_init 28 = .ok (.iconst 0, 1) := dk_3 (dk_at dksX2_init_1 4 rfl rfl)
theorem dX2_init_29 : decode cX2_init 29 = .ok (.new 22, 3) := dk_187 0 22 (dk_at dksX2_init_1 5 rfl rfl)
theorem dX2_init_32 : decode cX2_init 32 = .ok (.dup, 1) := dk_89 (dk_at dksX2_init_1 8 rfl rfl)
theorem dX2_init_33 : decode cX2_init 33 = .ok (.invokespecial 24, 3) := dk_183 0 24 (dk_at dksX2_init_1 9 rfl rfl)
theorem dX2_init_36 : decode cX2_init 36 = .ok (.aastore, 1) := dk_83 (dk_at dksX2_init_1 12 rfl rfl)
theorem dX2_init_37 : decode cX2_init 37 = .ok (.dup, 1) := dk_89 (dk_at dksX2_init_1 13 rfl rfl)
theorem dX2_init_38 : decode cX2_init 38 = .ok (.iconst 1, 1) := dk_4 (dk_at dksX2_init_1 14 rfl rfl)
theorem dX2_init_39 : decode cX2_init 39 = .ok (.new 22, 3) := dk_187 0 22 (dk_at dksX2_init_1 15 rfl rfl)
theorem dX2_init_42 : decode cX2_init 42 = .ok (.dup, 1) := dk_89 (dk_at dksX2_init_1 18 rfl rfl)
theorem dX2_init_43 : decode cX2_init 43 = .ok (.invokespecial 24, 3) := dk_183 0 24 (dk_at dksX2_init_1 19 rfl rfl)
theorem dX2_init_46 : decode cX2_init 46 = .ok (.aastore, 1) := dk_83 (dk_at dksX2_init_1 22 rfl rfl)
theorem dX2_init_47 : decode cX2_init 47 = .ok (.dup, 1) := dk_89 (dk_at dksX2_init_1 23 rfl rfl)
theorem dX2_init_48 : decode cX2_init 48 = .ok (.iconst 2, 1) := dk_5 (dk_at dksX2_init_2 0 rfl rfl)
theorem dX2_init_49 : decode cX2_init 49 = .ok (.new 22, 3) := dk_187 0 22 (dk_at dksX2_init_2 1 rfl rfl)
theorem dX2_init_52 : decode cX2_init 52 = .ok (.dup, 1) := dk_89 (dk_at dksX2_init_2 4 rfl rfl)
theorem dX2_init_53 : decode cX2_init 53 = .ok (.invokespecial 24, 3) := dk_183 0 24 (dk_at dksX2_init_2 5 rfl rfl)
theorem dX2_init_56 : decode cX2_init 56 = .ok (.aastore, 1) := dk_83 (dk_at dksX2_init_2 8 rfl rfl)
theorem dX2_init_57 : decode cX2_init 57 = .ok (.putfield 25, 3) := dk_181 0 25 (dk_at dksX2_init_2 9 rfl rfl)
theorem dX2_init_60 : decode cX2_init 60 = .ok (.aload_n 0, 1) := dk_42 (dk_at dksX2_init_2 12 rfl rfl)
theorem dX2_init_61 : decode cX2_init 61 = .ok (.new 29, 3) := dk_187 0 29 (dk_at dksX2_init_2 13 rfl rfl)
theorem dX2_init_64 : decode cX2_init 64 = .ok (.dup, 1) := dk_89 (dk_at dksX2_init_2 16 rfl rfl)
theorem dX2_init_65 : decode cX2_init 65 = .ok (.iload_n 1, 1) := dk_27 (dk_at dksX2_init_2 17 rfl rfl)
theorem dX2_init_66 : decode cX2_init 66 = .ok (.iload_n 2, 1) := dk_28 (dk_at dksX2_init_2 18 rfl rfl)
theorem dX2_init_67 : decode cX2_init 67 = .ok (.invokespecial 31, 3) := dk_183 0 31 (dk_at dksX2_init_2 19 rfl rfl)
theorem dX2_init_70 : decode cX2_init 70 = .ok (.putfield 34, 3) := dk_181 0 34 (dk_at dksX2_init_3 0 rfl rfl)
theorem dX2_init_73 : decode cX2_init 73 = .ok (.aload_n 0, 1) := dk_42 (dk_at dksX2_init_3 3 rfl rfl)
theorem dX2_init_74 : decode cX2_init 74 = .ok (.getfield 12, 3) := dk_180 0 12 (dk_at dksX2_init_3 4 rfl rfl)
theorem dX2_init_77 : decode cX2_init 77 = .ok (.new 38, 3) := dk_187 0 38 (dk_at dksX2_init_3 7 rfl rfl)
theorem dX2_init_80 : decode cX2_init 80 = .ok (.dup, 1) := dk_89 (dk_at dksX2_init_3 10 rfl rfl)
theorem dX2_init_81 : decode cX2_init 81 = .ok (.aload_n 0, 1) := dk_42 (dk_at dksX2_init_3 11 rfl rfl)
theorem dX2_init_82 : decode cX2_init 82 = .ok (.getfield 34, 3) := dk_180 0 34 (dk_at dksX2_init_3 12 rfl rfl)
theorem dX2_init_85 : decode cX2_init 85 = .ok (.iload_n 3, 1) := dk_29 (dk_at dksX2_init_3 15 rfl rfl)
theorem dX2_init_86 : decode cX2_init 86 = .ok (.invokespecial 40, 3) := dk_183 0 40 (dk_at dksX2_init_3 16 rfl rfl)
theorem dX2_init_89 : decode cX2_init 89 = .ok (.invokevirtual 43, 3) := dk_182 0 43 (dk_at dksX2_init_3 19 rfl rfl)
theorem dX2_init_92 : decode cX2_init 92 = .ok (.istore 4, 2) := dk_54 4 (dk_at dksX2_init_3 22 rfl rfl)
theorem dX2_init_94 : decode cX2_init 94 = .ok (.return_, 1) := dk_177 (dk_at dksX2_init_4 0 rfl rfl)
abbrev cX2_isOver : ByteArray := prog_5_method_9_code
def yX2_isOver : MethodName := ⟨RX2, "isOver", "()Z"⟩
def dkwX2_isOver_1 : List UInt8 := [153, 0, 7, 4, 167, 0, 4, 3, 182, 0, 91, 172]
abbrev dktX2_isOver_1 : List UInt8 := dkwX2_isOver_1 ++ []
def dkwX2_isOver_0 : List UInt8 := [42, 42, 182, 0, 81, 42, 182, 0, 84, 42, 182, 0, 84, 158, 0, 17, 42, 182, 0, 65, 182, 0, 87]
abbrev dktX2_isOver_0 : List UInt8 := dkwX2_isOver_0 ++ dktX2_isOver_1
theorem dksX2_isOver_0 : cX2_isOver.data.toList.drop 0 = dktX2_isOver_0 := by decide +kernel
theorem dksX2_isOver_1 : cX2_isOver.data.toList.drop 23 = dktX2_isOver_1 := dk_seg dksX2_isOver_0 23 rfl rfl
theorem dX2_isOver_0 : decode cX2_isOver 0 = .ok (.aload_n 0, 1) := dk_42 (dk_at dksX2_isOver_0 0 rfl rfl)
theorem dX2_isOver_1 : decode cX2_isOver 1 = .ok (.aload_n 0, 1) := dk_42 (dk_at dksX2_isOver_0 1 rfl rfl)
theorem dX2_isOver_2 : decode cX2_isOver 2 = .ok (.invokevirtual 81, 3) := dk_182 0 81 (dk_at dksX2_isOver_0 2 rfl rfl)
theorem dX2_isOver_5 : decode cX2_isOver 5 = .ok (.aload_n 0, 1) := dk_42 (dk_at dksX2_isOver_0 5 rfl rfl)
theorem dX2_isOver_6 : decode cX2_isOver 6 = .ok (.invokevirtual 84, 3) := dk_182 0 84 (dk_at dksX2_isOver_0 6 rfl rfl)
theorem dX2_isOver_9 : decode cX2_isOver 9 = .ok (.aload_n 0, 1) := dk_42 (dk_at dksX2_isOver_0 9 rfl rfl)
theorem dX2_isOver_10 : decode cX2_isOver 10 = .ok (.invokevirtual 84, 3) := dk_182 0 84 (dk_at dksX2_isOver_0 10 rfl rfl)
theorem dX2_isOver_13 : decode cX2_isOver 13 = .ok (.ifCond .le 17, 3) := dk_158 0 17 (dk_at dksX2_isOver_0 13 rfl rfl)
theorem dX2_isOver_16 : decode cX2_isOver 16 = .ok (.aload_n 0, 1) := dk_42 (dk_at dksX2_isOver_0 16 rfl rfl)
theorem dX2_isOver_17 : decode cX2_isOver 17 = .ok (.invokevirtual 65, 3) := dk_182 0 65 (dk_at dksX2_isOver_0 17 rfl rfl)
theorem dX2_isOver_20 : decode cX2_isOver 20 = .ok (.invokevirtual 87, 3) := dk_182 0 87 (dk_at dksX2_isOver_0 20 rfl rfl)
theorem dX2_isOver_23 : decode cX2_isOver 23 = .ok (.ifCond .eq 7, 3) := dk_153 0 7 (dk_at dksX2_isOver_1 0 rfl rfl)
theorem dX2_isOver_26 : decode cX2_isOver 26 = .ok (.iconst 1, 1) := dk_4 (dk_at dksX2_isOver_1 3 rfl rfl)
theorem dX2_isOver_27 : decode cX2_isOver 27 = .ok (.goto 4, 3) := dk_167 0 4 (dk_at dksX2_isOver_1 4 rfl rfl)
theorem dX2_isOver_30 : decode cX2_isOver 30 = .ok (.iconst 0, 1) := dk_3 (dk_at dksX2_isOver_1 7 rfl rfl)
theorem dX2_isOver_31 : decode cX2_isOver 31 = .ok (.invokevirtual 91, 3) := dk_182 0 91 (dk_at dksX2_isOver_1 8 rfl rfl)
theorem dX2_isOver_34 : decode cX2_isOver 34 = .ok (.ireturn, 1) := dk_172 (dk_at dksX2_isOver_1 11 rfl rfl)
abbrev cX2_board : ByteArray := prog_5_method_6_code
def yX2_board : MethodName := ⟨RX2, "board", "()LEnclosureReferee$Board;"⟩
def dkwX2_board_0 : List UInt8 := [42, 182, 0, 65, 180, 0, 69, 176]
abbrev dktX2_board_0 : List UInt8 := dkwX2_board_0 ++ []
theorem dksX2_board_0 : cX2_board.data.toList.drop 0 = dktX2_board_0 := by decide +kernel
theorem dX2_board_0 : decode cX2_board 0 = .ok (.aload_n 0, 1) := dk_42 (dk_at dksX2_board_0 0 rfl rfl)
theorem dX2_board_1 : decode cX2_board 1 = .ok (.invokevirtual 65, 3) := dk_182 0 65 (dk_at dksX2_board_0 1 rfl rfl)
theorem dX2_board_4 : decode cX2_board 4 = .ok (.getfield 69, 3) := dk_180 0 69 (dk_at dksX2_board_0 4 rfl rfl)
theorem dX2_board_7 : decode cX2_board 7 = .ok (.areturn, 1) := dk_176 (dk_at dksX2_board_0 7 rfl rfl)
abbrev cX2_last : ByteArray := prog_5_method_5_code
def yX2_last : MethodName := ⟨RX2, "last", "()LEnclosureReferee$Round;"⟩
def dkwX2_last_0 : List UInt8 := [42, 180, 0, 12, 42, 180, 0, 12, 182, 0, 57, 4, 100, 182, 0, 61, 192, 0, 38, 176]
abbrev dktX2_last_0 : List UInt8 := dkwX2_last_0 ++ []
theorem dksX2_last_0 : cX2_last.data.toList.drop 0 = dktX2_last_0 := by decide +kernel
theorem dX2_last_0 : decode cX2_last 0 = .ok (.aload_n 0, 1) := dk_42 (dk_at dksX2_last_0 0 rfl rfl)
theorem dX2_last_1 : decode cX2_last 1 = .ok (.getfield 12, 3) := dk_180 0 12 (dk_at dksX2_last_0 1 rfl rfl)
theorem dX2_last_4 : decode cX2_last 4 = .ok (.aload_n 0, 1) := dk_42 (dk_at dksX2_last_0 4 rfl rfl)
theorem dX2_last_5 : decode cX2_last 5 = .ok (.getfield 12, 3) := dk_180 0 12 (dk_at dksX2_last_0 5 rfl rfl)
theorem dX2_last_8 : decode cX2_last 8 = .ok (.invokevirtual 57, 3) := dk_182 0 57 (dk_at dksX2_last_0 8 rfl rfl)
theorem dX2_last_11 : decode cX2_last 11 = .ok (.iconst 1, 1) := dk_4 (dk_at dksX2_last_0 11 rfl rfl)
theorem dX2_last_12 : decode cX2_last 12 = .ok (.isub, 1) := dk_100 (dk_at dksX2_last_0 12 rfl rfl)
theorem dX2_last_13 : decode cX2_last 13 = .ok (.invokevirtual 61, 3) := dk_182 0 61 (dk_at dksX2_last_0 13 rfl rfl)
theorem dX2_last_16 : decode cX2_last 16 = .ok (.checkcast 38, 3) := dk_192 0 38 (dk_at dksX2_last_0 16 rfl rfl)
theorem dX2_last_19 : decode cX2_last 19 = .ok (.areturn, 1) := dk_176 (dk_at dksX2_last_0 19 rfl rfl)
abbrev cX2_rounds : ByteArray := prog_5_method_3_code
def yX2_rounds : MethodName := ⟨RX2, "rounds", "()I"⟩
def dkwX2_rounds_0 : List UInt8 := [42, 180, 0, 12, 182, 0, 57, 4, 100, 172]
abbrev dktX2_rounds_0 : List UInt8 := dkwX2_rounds_0 ++ []
theorem dksX2_rounds_0 : cX2_rounds.data.toList.drop 0 = dktX2_rounds_0 := by decide +kernel
theorem dX2_rounds_0 : decode cX2_rounds 0 = .ok (.aload_n 0, 1) := dk_42 (dk_at dksX2_rounds_0 0 rfl rfl)
theorem dX2_rounds_1 : decode cX2_rounds 1 = .ok (.getfield 12, 3) := dk_180 0 12 (dk_at dksX2_rounds_0 1 rfl rfl)
theorem dX2_rounds_4 : decode cX2_rounds 4 = .ok (.invokevirtual 57, 3) := dk_182 0 57 (dk_at dksX2_rounds_0 4 rfl rfl)
theorem dX2_rounds_7 : decode cX2_rounds 7 = .ok (.iconst 1, 1) := dk_4 (dk_at dksX2_rounds_0 7 rfl rfl)
theorem dX2_rounds_8 : decode cX2_rounds 8 = .ok (.isub, 1) := dk_100 (dk_at dksX2_rounds_0 8 rfl rfl)
theorem dX2_rounds_9 : decode cX2_rounds 9 = .ok (.ireturn, 1) := dk_172 (dk_at dksX2_rounds_0 9 rfl rfl)
abbrev cX2_isOver_2 : ByteArray := prog_5_method_8_code
def yX2_isOver_2 : MethodName := ⟨RX2, "isOver", "(LEnclosureReferee$Board;IZ)Z"⟩
def dkwX2_isOver_2_1 : List UInt8 := [167, 0, 4, 3, 172]
abbrev dktX2_isOver_2_1 : List UInt8 := dkwX2_isOver_2_1 ++ []
def dkwX2_isOver_2_0 : List UInt8 := [29, 154, 0, 22, 28, 16, 60, 162, 0, 16, 43, 42, 180, 0, 34, 182, 0, 77, 9, 148, 154, 0, 7, 4]
abbrev dktX2_isOver_2_0 : List UInt8 := dkwX2_isOver_2_0 ++ dktX2_isOver_2_1
theorem dksX2_isOver_2_0 : cX2_isOver_2.data.toList.drop 0 = dktX2_isOver_2_0 := by decide +kernel
theorem dksX2_isOver_2_1 : cX2_isOver_2.data.toList.drop 24 = dktX2_isOver_2_1 := dk_seg dksX2_isOver_2_0 24 rfl rfl
theorem dX2_isOver_2_0 : decode cX2_isOver_2 0 = .ok (.iload_n 3, 1) := dk_29 (dk_at dksX2_isOver_2_0 0 rfl rfl)
theorem dX2_isOver_2_1 : decode cX2_isOver_2 1 = .ok (.ifCond .ne 22, 3) := dk_154 0 22 (dk_at dksX2_isOver_2_0 1 rfl rfl)
theorem dX2_isOver_2_4 : decode cX2_isOver_2 4 = .ok (.iload_n 2, 1) := dk_28 (dk_at dksX2_isOver_2_0 4 rfl rfl)
theorem dX2_isOver_2_5 : decode cX2_isOver_2 5 = .ok (.bipush 60, 2) := dk_16 60 (dk_at dksX2_isOver_2_0 5 rfl rfl)
theorem dX2_isOver_2_7 : decode cX2_isOver_2 7 = .ok (.if_icmp .ge 16, 3) := dk_162 0 16 (dk_at dksX2_isOver_2_0 7 rfl rfl)
theorem dX2_isOver_2_10 : decode cX2_isOver_2 10 = .ok (.aload_n 1, 1) := dk_43 (dk_at dksX2_isOver_2_0 10 rfl rfl)
theorem dX2_isOver_2_11 : decode cX2_isOver_2 11 = .ok (.aload_n 0, 1) := dk_42 (dk_at dksX2_isOver_2_0 11 rfl rfl)
theorem dX2_isOver_2_12 : decode cX2_isOver_2 12 = .ok (.getfield 34, 3) := dk_180 0 34 (dk_at dksX2_isOver_2_0 12 rfl rfl)
theorem dX2_isOver_2_15 : decode cX2_isOver_2 15 = .ok (.invokevirtual 77, 3) := dk_182 0 77 (dk_at dksX2_isOver_2_0 15 rfl rfl)
theorem dX2_isOver_2_18 : decode cX2_isOver_2 18 = .ok (.lconst 0, 1) := dk_9 (dk_at dksX2_isOver_2_0 18 rfl rfl)
theorem dX2_isOver_2_19 : decode cX2_isOver_2 19 = .ok (.lcmp, 1) := dk_148 (dk_at dksX2_isOver_2_0 19 rfl rfl)
theorem dX2_isOver_2_20 : decode cX2_isOver_2 20 = .ok (.ifCond .ne 7, 3) := dk_154 0 7 (dk_at dksX2_isOver_2_0 20 rfl rfl)
theorem dX2_isOver_2_23 : decode cX2_isOver_2 23 = .ok (.iconst 1, 1) := dk_4 (dk_at dksX2_isOver_2_0 23 rfl rfl)
theorem dX2_isOver_2_24 : decode cX2_isOver_2 24 = .ok (.goto 4, 3) := dk_167 0 4 (dk_at dksX2_isOver_2_1 0 rfl rfl)
theorem dX2_isOver_2_27 : decode cX2_isOver_2 27 = .ok (.iconst 0, 1) := dk_3 (dk_at dksX2_isOver_2_1 3 rfl rfl)
theorem dX2_isOver_2_28 : decode cX2_isOver_2 28 = .ok (.ireturn, 1) := dk_172 (dk_at dksX2_isOver_2_1 4 rfl rfl)
abbrev cX2_init_2 : ByteArray := prog_5_method_2_code
def yX2_init_2 : MethodName := ⟨RX2, "<init>", "(LEnclosureReferee$Game;)V"⟩
def dkwX2_init_2_5 : List UInt8 := [182, 0, 43, 62, 132, 2, 1, 167, 255, 223, 177]
abbrev dktX2_init_2_5 : List UInt8 := dkwX2_init_2_5 ++ []
def dkwX2_init_2_4 : List UInt8 := [180, 0, 12, 182, 0, 57, 162, 0, 28, 42, 180, 0, 12, 43, 180, 0, 12, 28, 182, 0, 61, 192, 0, 38]
abbrev dktX2_init_2_4 : List UInt8 := dkwX2_init_2_4 ++ dktX2_init_2_5
def dkwX2_init_2_3 : List UInt8 := [180, 0, 47, 181, 0, 47, 43, 180, 0, 18, 3, 42, 180, 0, 18, 3, 5, 184, 0, 51, 3, 61, 28, 43]
abbrev dktX2_init_2_3 : List UInt8 := dkwX2_init_2_3 ++ dktX2_init_2_4
def dkwX2_init_2_2 : List UInt8 := [5, 187, 0, 22, 89, 183, 0, 24, 83, 181, 0, 25, 42, 43, 180, 0, 34, 181, 0, 34, 42, 43]
abbrev dktX2_init_2_2 : List UInt8 := dkwX2_init_2_2 ++ dktX2_init_2_3
def dkwX2_init_2_1 : List UInt8 := [189, 0, 22, 89, 3, 187, 0, 22, 89, 183, 0, 24, 83, 89, 4, 187, 0, 22, 89, 183, 0, 24, 83, 89]
abbrev dktX2_init_2_1 : List UInt8 := dkwX2_init_2_1 ++ dktX2_init_2_2
def dkwX2_init_2_0 : List UInt8 := [42, 183, 0, 3, 42, 187, 0, 9, 89, 183, 0, 11, 181, 0, 12, 42, 5, 188, 10, 181, 0, 18, 42, 6]
abbrev dktX2_init_2_0 : List UInt8 := dkwX2_init_2_0 ++ dktX2_init_2_1
theorem dksX2_init_2_0 : cX2_init_2.data.toList.drop 0 = dktX2_init_2_0 := by decide +kernel
theorem dksX2_init_2_1 : cX2_init_2.data.toList.drop 24 = dktX2_init_2_1 := dk_seg dksX2_init_2_0 24 rfl rfl
theorem dksX2_init_2_2 : cX2_init_2.data.toList.drop 48 = dktX2_init_2_2 := dk_seg dksX2_init_2_1 24 rfl rfl
theorem dksX2_init_2_3 : cX2_init_2.data.toList.drop 70 = dktX2_init_2_3 := dk_seg dksX2_init_2_2 22 rfl rfl
theorem dksX2_init_2_4 : cX2_init_2.data.toList.drop 94 = dktX2_init_2_4 := dk_seg dksX2_init_2_3 24 rfl rfl
theorem dksX2_init_2_5 : cX2_init_2.data.toList.drop 118 = dktX2_init_2_5 := dk_seg dksX2_init_2_4 24 rfl rfl
theorem dX2_init_2_0 : decode cX2_init_2 0 = .ok (.aload_n 0, 1) := dk_42 (dk_at dksX2_init_2_0 0 rfl rfl)
theorem dX2_init_2_1 : decode cX2_init_2 1 = .ok (.invokespecial 3, 3) := dk_183 0 3 (dk_at dksX2_init_2_0 1 rfl rfl)
theorem dX2_init_2_4 : decode cX2_init_2 4 = .ok (.aload_n 0, 1) := dk_42 (dk_at dksX2_init_2_0 4 rfl rfl)
theorem dX2_init_2_5 : decode cX2_init_2 5 = .ok (.new 9, 3) := dk_187 0 9 (dk_at dksX2_init_2_0 5 rfl rfl)
theorem dX2_init_2_8 : decode cX2_init_2 8 = .ok (.dup, 1) := dk_89 (dk_at dksX2_init_2_0 8 rfl rfl)
theorem dX2_init_2_9 : decode cX2_init_2 9 = .ok (.invokespecial 11, 3) := dk_183 0 11 (dk_at dksX2_init_2_0 9 rfl rfl)
theorem dX2_init_2_12 : decode cX2_init_2 12 = .ok (.putfield 12, 3) := dk_181 0 12 (dk_at dksX2_init_2_0 12 rfl rfl)
theorem dX2_init_2_15 : decode cX2_init_2 15 = .ok (.aload_n 0, 1) := dk_42 (dk_at dksX2_init_2_0 15 rfl rfl)
theorem dX2_init_2_16 : decode cX2_init_2 16 = .ok (.iconst 2, 1) := dk_5 (dk_at dksX2_init_2_0 16 rfl rfl)
theorem dX2_init_2_17 : decode cX2_init_2 17 = .ok (.newarray .int, 2) := dk_188_10 (dk_at dksX2_init_2_0 17 rfl rfl)
theorem dX2_init_2_19 : decode cX2_init_2 19 = .ok (.putfield 18, 3) := dk_181 0 18 (dk_at dksX2_init_2_0 19 rfl rfl)
theorem dX2_init_2_22 : decode cX2_init_2 22 = .ok (.aload_n 0, 1) := dk_42 (dk_at dksX2_init_2_0 22 rfl rfl)
theorem dX2_init_2_23 : decode cX2_init_2 23 = .ok (.iconst 3, 1) := dk_6 (dk_at dksX2_init_2_0 23 rfl rfl)
theorem dX2_init_2_24 : decode cX2_init_2 24 = .ok (.anewarray 22, 3) := dk_189 0 22 (dk_at dksX2_init_2_1 0 rfl rfl)
theorem dX2_init_2_27 : decode cX2_init_2 27 = .ok (.dup, 1) := dk_89 (dk_at dksX2_init_2_1 3 rfl rfl)
theorem dX2_init_2_28 : decode cX2_init_2 28 = .ok (.iconst 0, 1) := dk_3 (dk_at dksX2_init_2_1 4 rfl rfl)
theorem dX2_init_2_29 : decode cX2_init_2 29 = .ok (.new 22, 3) := dk_187 0 22 (dk_at dksX2_init_2_1 5 rfl rfl)
theorem dX2_init_2_32 : decode cX2_init_2 32 = .ok (.dup, 1) := dk_89 (dk_at dksX2_init_2_1 8 rfl rfl)
theorem dX2_init_2_33 : decode cX2_init_2 33 = .ok (.invokespecial 24, 3) := dk_183 0 24 (dk_at dksX2_init_2_1 9 rfl rfl)
theorem dX2_init_2_36 : decode cX2_init_2 36 = .ok (.aastore, 1) := dk_83 (dk_at dksX2_init_2_1 12 rfl rfl)
theorem dX2_init_2_37 : decode cX2_init_2 37 = .ok (.dup, 1) := dk_89 (dk_at dksX2_init_2_1 13 rfl rfl)
theorem dX2_init_2_38 : decode cX2_init_2 38 = .ok (.iconst 1, 1) := dk_4 (dk_at dksX2_init_2_1 14 rfl rfl)
theorem dX2_init_2_39 : decode cX2_init_2 39 = .ok (.new 22, 3) := dk_187 0 22 (dk_at dksX2_init_2_1 15 rfl rfl)
theorem dX2_init_2_42 : decode cX2_init_2 42 = .ok (.dup, 1) := dk_89 (dk_at dksX2_init_2_1 18 rfl rfl)
theorem dX2_init_2_43 : decode cX2_init_2 43 = .ok (.invokespecial 24, 3) := dk_183 0 24 (dk_at dksX2_init_2_1 19 rfl rfl)
theorem dX2_init_2_46 : decode cX2_init_2 46 = .ok (.aastore, 1) := dk_83 (dk_at dksX2_init_2_1 22 rfl rfl)
theorem dX2_init_2_47 : decode cX2_init_2 47 = .ok (.dup, 1) := dk_89 (dk_at dksX2_init_2_1 23 rfl rfl)
theorem dX2_init_2_48 : decode cX2_init_2 48 = .ok (.iconst 2, 1) := dk_5 (dk_at dksX2_init_2_2 0 rfl rfl)
theorem dX2_init_2_49 : decode cX2_init_2 49 = .ok (.new 22, 3) := dk_187 0 22 (dk_at dksX2_init_2_2 1 rfl rfl)
theorem dX2_init_2_52 : decode cX2_init_2 52 = .ok (.dup, 1) := dk_89 (dk_at dksX2_init_2_2 4 rfl rfl)
theorem dX2_init_2_53 : decode cX2_init_2 53 = .ok (.invokespecial 24, 3) := dk_183 0 24 (dk_at dksX2_init_2_2 5 rfl rfl)
theorem dX2_init_2_56 : decode cX2_init_2 56 = .ok (.aastore, 1) := dk_83 (dk_at dksX2_init_2_2 8 rfl rfl)
theorem dX2_init_2_57 : decode cX2_init_2 57 = .ok (.putfield 25, 3) := dk_181 0 25 (dk_at dksX2_init_2_2 9 rfl rfl)
theorem dX2_init_2_60 : decode cX2_init_2 60 = .ok (.aload_n 0, 1) := dk_42 (dk_at dksX2_init_2_2 12 rfl rfl)
theorem dX2_init_2_61 : decode cX2_init_2 61 = .ok (.aload_n 1, 1) := dk_43 (dk_at dksX2_init_2_2 13 rfl rfl)
theorem dX2_init_2_62 : decode cX2_init_2 62 = .ok (.getfield 34, 3) := dk_180 0 34 (dk_at dksX2_init_2_2 14 rfl rfl)
theorem dX2_init_2_65 : decode cX2_init_2 65 = .ok (.putfield 34, 3) := dk_181 0 34 (dk_at dksX2_init_2_2 17 rfl rfl)
theorem dX2_init_2_68 : decode cX2_init_2 68 = .ok (.aload_n 0, 1) := dk_42 (dk_at dksX2_init_2_2 20 rfl rfl)
theorem dX2_init_2_69 : decode cX2_init_2 69 = .ok (.aload_n 1, 1) := dk_43 (dk_at dksX2_init_2_2 21 rfl rfl)
theorem dX2_init_2_70 : decode cX2_init_2 70 = .ok (.getfield 47, 3) := dk_180 0 47 (dk_at dksX2_init_2_3 0 rfl rfl)
theorem dX2_init_2_73 : decode cX2_init_2 73 = .ok (.putfield 47, 3) := dk_181 0 47 (dk_at dksX2_init_2_3 3 rfl rfl)
theorem dX2_init_2_76 : decode cX2_init_2 76 = .ok (.aload_n 1, 1) := dk_43 (dk_at dksX2_init_2_3 6 rfl rfl)
theorem dX2_init_2_77 : decode cX2_init_2 77 = .ok (.getfield 18, 3) := dk_180 0 18 (dk_at dksX2_init_2_3 7 rfl rfl)
theorem dX2_init_2_80 : decode cX2_init_2 80 = .ok (.iconst 0, 1) := dk_3 (dk_at dksX2_init_2_3 10 rfl rfl)
theorem dX2_init_2_81 : decode cX2_init_2 81 = .ok (.aload_n 0, 1) := dk_42 (dk_at dksX2_init_2_3 11 rfl rfl)
theorem dX2_init_2_82 : decode cX2_init_2 82 = .ok (.getfield 18, 3) := dk_180 0 18 (dk_at dksX2_init_2_3 12 rfl rfl)
theorem dX2_init_2_85 : decode cX2_init_2 85 = .ok (.iconst 0, 1) := dk_3 (dk_at dksX2_init_2_3 15 rfl rfl)
theorem dX2_init_2_86 : decode cX2_init_2 86 = .ok (.iconst 2, 1) := dk_5 (dk_at dksX2_init_2_3 16 rfl rfl)
theorem dX2_init_2_87 : decode cX2_init_2 87 = .ok (.invokestatic 51, 3) := dk_184 0 51 (dk_at dksX2_init_2_3 17 rfl rfl)
theorem dX2_init_2_90 : decode cX2_init_2 90 = .ok (.iconst 0, 1) := dk_3 (dk_at dksX2_init_2_3 20 rfl rfl)
theorem dX2_init_2_91 : decode cX2_init_2 91 = .ok (.istore_n 2, 1) := dk_61 (dk_at dksX2_init_2_3 21 rfl rfl)
theorem dX2_init_2_92 : decode cX2_init_2 92 = .ok (.iload_n 2, 1) := dk_28 (dk_at dksX2_init_2_3 22 rfl rfl)
theorem dX2_init_2_93 : decode cX2_init_2 93 = .ok (.aload_n 1, 1) := dk_43 (dk_at dksX2_init_2_3 23 rfl rfl)
theorem dX2_init_2_94 : decode cX2_init_2 94 = .ok (.getfield 12, 3) := dk_180 0 12 (dk_at dksX2_init_2_4 0 rfl rfl)
theorem dX2_init_2_97 : decode cX2_init_2 97 = .ok (.invokevirtual 57, 3) := dk_182 0 57 (dk_at dksX2_init_2_4 3 rfl rfl)
theorem dX2_init_2_100 : decode cX2_init_2 100 = .ok (.if_icmp .ge 28, 3) := dk_162 0 28 (dk_at dksX2_init_2_4 6 rfl rfl)
theorem dX2_init_2_103 : decode cX2_init_2 103 = .ok (.aload_n 0, 1) := dk_42 (dk_at dksX2_init_2_4 9 rfl rfl)
theorem dX2_init_2_104 : decode cX2_init_2 104 = .ok (.getfield 12, 3) := dk_180 0 12 (dk_at dksX2_init_2_4 10 rfl rfl)
theorem dX2_init_2_107 : decode cX2_init_2 107 = .ok (.aload_n 1, 1) := dk_43 (dk_at dksX2_init_2_4 13 rfl rfl)
theorem dX2_init_2_108 : decode cX2_init_2 108 = .ok (.getfield 12, 3) := dk_180 0 12 (dk_at dksX2_init_2_4 14 rfl rfl)
theorem dX2_init_2_111 : decode cX2_init_2 111 = .ok (.iload_n 2, 1) := dk_28 (dk_at dksX2_init_2_4 17 rfl rfl)
theorem dX2_init_2_112 : decode cX2_init_2 112 = .ok (.invokevirtual 61, 3) := dk_182 0 61 (dk_at dksX2_init_2_4 18 rfl rfl)
theorem dX2_init_2_115 : decode cX2_init_2 115 = .ok (.checkcast 38, 3) := dk_192 0 38 (dk_at dksX2_init_2_4 21 rfl rfl)
theorem dX2_init_2_118 : decode cX2_init_2 118 = .ok (.invokevirtual 43, 3) := dk_182 0 43 (dk_at dksX2_init_2_5 0 rfl rfl)
theorem dX2_init_2_121 : decode cX2_init_2 121 = .ok (.istore_n 3, 1) := dk_62 (dk_at dksX2_init_2_5 3 rfl rfl)
theorem dX2_init_2_122 : decode cX2_init_2 122 = .ok (.iinc 2 1, 3) := dk_132 2 1 (dk_at dksX2_init_2_5 4 rfl rfl)
theorem dX2_init_2_125 : decode cX2_init_2 125 = .ok (.goto (-33), 3) := dk_167 255 223 (dk_at dksX2_init_2_5 7 rfl rfl)
theorem dX2_init_2_128 : decode cX2_init_2 128 = .ok (.return_, 1) := dk_177 (dk_at dksX2_init_2_5 10 rfl rfl)
abbrev cX2_play : ByteArray := prog_5_method_13_code
def yX2_play : MethodName := ⟨RX2, "play", "(II)I"⟩
def dkwX2_play_4 : List UInt8 := [180, 0, 12, 45, 182, 0, 43, 54, 4, 45, 182, 0, 154, 172]
abbrev dktX2_play_4 : List UInt8 := dkwX2_play_4 ++ []
def dkwX2_play_3 : List UInt8 := [45, 180, 0, 151, 21, 4, 42, 45, 180, 0, 69, 21, 4, 182, 0, 95, 79, 132, 4, 1, 167, 255, 230, 42]
abbrev dktX2_play_3 : List UInt8 := dkwX2_play_3 ++ dktX2_play_4
def dkwX2_play_2 : List UInt8 := [42, 182, 0, 84, 42, 42, 182, 0, 81, 182, 0, 143, 182, 0, 147, 3, 54, 4, 21, 4, 5, 162, 0, 26]
abbrev dktX2_play_2 : List UInt8 := dkwX2_play_2 ++ dktX2_play_3
def dkwX2_play_1 : List UInt8 := [45, 183, 0, 137, 191, 187, 0, 38, 89, 42, 182, 0, 65, 27, 28, 183, 0, 140, 78, 45, 42, 180, 0, 34]
abbrev dktX2_play_1 : List UInt8 := dkwX2_play_1 ++ dktX2_play_2
def dkwX2_play_0 : List UInt8 := [42, 3, 27, 182, 0, 132, 42, 4, 28, 182, 0, 132, 167, 0, 17, 78, 187, 0, 135, 89, 42, 182, 0, 84]
abbrev dktX2_play_0 : List UInt8 := dkwX2_play_0 ++ dktX2_play_1
theorem dksX2_play_0 : cX2_play.data.toList.drop 0 = dktX2_play_0 := by decide +kernel
theorem dksX2_play_1 : cX2_play.data.toList.drop 24 = dktX2_play_1 := dk_seg dksX2_play_0 24 rfl rfl
theorem dksX2_play_2 : cX2_play.data.toList.drop 48 = dktX2_play_2 := dk_seg dksX2_play_1 24 rfl rfl
theorem dksX2_play_3 : cX2_play.data.toList.drop 72 = dktX2_play_3 := dk_seg dksX2_play_2 24 rfl rfl
theorem dksX2_play_4 : cX2_play.data.toList.drop 96 = dktX2_play_4 := dk_seg dksX2_play_3 24 rfl rfl
theorem dX2_play_0 : decode cX2_play 0 = .ok (.aload_n 0, 1) := dk_42 (dk_at dksX2_play_0 0 rfl rfl)
theorem dX2_play_1 : decode cX2_play 1 = .ok (.iconst 0, 1) := dk_3 (dk_at dksX2_play_0 1 rfl rfl)
theorem dX2_play_2 : decode cX2_play 2 = .ok (.iload_n 1, 1) := dk_27 (dk_at dksX2_play_0 2 rfl rfl)
theorem dX2_play_3 : decode cX2_play 3 = .ok (.invokevirtual 132, 3) := dk_182 0 132 (dk_at dksX2_play_0 3 rfl rfl)
theorem dX2_play_6 : decode cX2_play 6 = .ok (.aload_n 0, 1) := dk_42 (dk_at dksX2_play_0 6 rfl rfl)
theorem dX2_play_7 : decode cX2_play 7 = .ok (.iconst 1, 1) := dk_4 (dk_at dksX2_play_0 7 rfl rfl)
theorem dX2_play_8 : decode cX2_play 8 = .ok (.iload_n 2, 1) := dk_28 (dk_at dksX2_play_0 8 rfl rfl)
theorem dX2_play_9 : decode cX2_play 9 = .ok (.invokevirtual 132, 3) := dk_182 0 132 (dk_at dksX2_play_0 9 rfl rfl)
theorem dX2_play_12 : decode cX2_play 12 = .ok (.goto 17, 3) := dk_167 0 17 (dk_at dksX2_play_0 12 rfl rfl)
theorem dX2_play_15 : decode cX2_play 15 = .ok (.astore_n 3, 1) := dk_78 (dk_at dksX2_play_0 15 rfl rfl)
theorem dX2_play_16 : decode cX2_play 16 = .ok (.new 135, 3) := dk_187 0 135 (dk_at dksX2_play_0 16 rfl rfl)
theorem dX2_play_19 : decode cX2_play 19 = .ok (.dup, 1) := dk_89 (dk_at dksX2_play_0 19 rfl rfl)
theorem dX2_play_20 : decode cX2_play 20 = .ok (.aload_n 0, 1) := dk_42 (dk_at dksX2_play_0 20 rfl rfl)
theorem dX2_play_21 : decode cX2_play 21 = .ok (.invokevirtual 84, 3) := dk_182 0 84 (dk_at dksX2_play_0 21 rfl rfl)
theorem dX2_play_24 : decode cX2_play 24 = .ok (.aload_n 3, 1) := dk_45 (dk_at dksX2_play_1 0 rfl rfl)
theorem dX2_play_25 : decode cX2_play 25 = .ok (.invokespecial 137, 3) := dk_183 0 137 (dk_at dksX2_play_1 1 rfl rfl)
theorem dX2_play_28 : decode cX2_play 28 = .ok (.athrow, 1) := dk_191 (dk_at dksX2_play_1 4 rfl rfl)
theorem dX2_play_29 : decode cX2_play 29 = .ok (.new 38, 3) := dk_187 0 38 (dk_at dksX2_play_1 5 rfl rfl)
theorem dX2_play_32 : decode cX2_play 32 = .ok (.dup, 1) := dk_89 (dk_at dksX2_play_1 8 rfl rfl)
theorem dX2_play_33 : decode cX2_play 33 = .ok (.aload_n 0, 1) := dk_42 (dk_at dksX2_play_1 9 rfl rfl)
theorem dX2_play_34 : decode cX2_play 34 = .ok (.invokevirtual 65, 3) := dk_182 0 65 (dk_at dksX2_play_1 10 rfl rfl)
theorem dX2_play_37 : decode cX2_play 37 = .ok (.iload_n 1, 1) := dk_27 (dk_at dksX2_play_1 13 rfl rfl)
theorem dX2_play_38 : decode cX2_play 38 = .ok (.iload_n 2, 1) := dk_28 (dk_at dksX2_play_1 14 rfl rfl)
theorem dX2_play_39 : decode cX2_play 39 = .ok (.invokespecial 140, 3) := dk_183 0 140 (dk_at dksX2_play_1 15 rfl rfl)
theorem dX2_play_42 : decode cX2_play 42 = .ok (.astore_n 3, 1) := dk_78 (dk_at dksX2_play_1 18 rfl rfl)
theorem dX2_play_43 : decode cX2_play 43 = .ok (.aload_n 3, 1) := dk_45 (dk_at dksX2_play_1 19 rfl rfl)
theorem dX2_play_44 : decode cX2_play 44 = .ok (.aload_n 0, 1) := dk_42 (dk_at dksX2_play_1 20 rfl rfl)
theorem dX2_play_45 : decode cX2_play 45 = .ok (.getfield 34, 3) := dk_180 0 34 (dk_at dksX2_play_1 21 rfl rfl)
theorem dX2_play_48 : decode cX2_play 48 = .ok (.aload_n 0, 1) := dk_42 (dk_at dksX2_play_2 0 rfl rfl)
theorem dX2_play_49 : decode cX2_play 49 = .ok (.invokevirtual 84, 3) := dk_182 0 84 (dk_at dksX2_play_2 1 rfl rfl)
theorem dX2_play_52 : decode cX2_play 52 = .ok (.aload_n 0, 1) := dk_42 (dk_at dksX2_play_2 4 rfl rfl)
theorem dX2_play_53 : decode cX2_play 53 = .ok (.aload_n 0, 1) := dk_42 (dk_at dksX2_play_2 5 rfl rfl)
theorem dX2_play_54 : decode cX2_play 54 = .ok (.invokevirtual 81, 3) := dk_182 0 81 (dk_at dksX2_play_2 6 rfl rfl)
theorem dX2_play_57 : decode cX2_play 57 = .ok (.invokevirtual 143, 3) := dk_182 0 143 (dk_at dksX2_play_2 9 rfl rfl)
theorem dX2_play_60 : decode cX2_play 60 = .ok (.invokevirtual 147, 3) := dk_182 0 147 (dk_at dksX2_play_2 12 rfl rfl)
theorem dX2_play_63 : decode cX2_play 63 = .ok (.iconst 0, 1) := dk_3 (dk_at dksX2_play_2 15 rfl rfl)
theorem dX2_play_64 : decode cX2_play 64 = .ok (.istore 4, 2) := dk_54 4 (dk_at dksX2_play_2 16 rfl rfl)
theorem dX2_play_66 : decode cX2_play 66 = .ok (.iload 4, 2) := dk_21 4 (dk_at dksX2_play_2 18 rfl rfl)
theorem dX2_play_68 : decode cX2_play 68 = .ok (.iconst 2, 1) := dk_5 (dk_at dksX2_play_2 20 rfl rfl)
theorem dX2_play_69 : decode cX2_play 69 = .ok (.if_icmp .ge 26, 3) := dk_162 0 26 (dk_at dksX2_play_2 21 rfl rfl)
theorem dX2_play_72 : decode cX2_play 72 = .ok (.aload_n 3, 1) := dk_45 (dk_at dksX2_play_3 0 rfl rfl)
theorem dX2_play_73 : decode cX2_play 73 = .ok (.getfield 151, 3) := dk_180 0 151 (dk_at dksX2_play_3 1 rfl rfl)
theorem dX2_play_76 : decode cX2_play 76 = .ok (.iload 4, 2) := dk_21 4 (dk_at dksX2_play_3 4 rfl rfl)
theorem dX2_play_78 : decode cX2_play 78 = .ok (.aload_n 0, 1) := dk_42 (dk_at dksX2_play_3 6 rfl rfl)
theorem dX2_play_79 : decode cX2_play 79 = .ok (.aload_n 3, 1) := dk_45 (dk_at dksX2_play_3 7 rfl rfl)
theorem dX2_play_80 : decode cX2_play 80 = .ok (.getfield 69, 3) := dk_180 0 69 (dk_at dksX2_play_3 8 rfl rfl)
theorem dX2_play_83 : decode cX2_play 83 = .ok (.iload 4, 2) := dk_21 4 (dk_at dksX2_play_3 11 rfl rfl)
theorem dX2_play_85 : decode cX2_play 85 = .ok (.invokevirtual 95, 3) := dk_182 0 95 (dk_at dksX2_play_3 13 rfl rfl)
theorem dX2_play_88 : decode cX2_play 88 = .ok (.iastore, 1) := dk_79 (dk_at dksX2_play_3 16 rfl rfl)
theorem dX2_play_89 : decode cX2_play 89 = .ok (.iinc 4 1, 3) := dk_132 4 1 (dk_at dksX2_play_3 17 rfl rfl)
theorem dX2_play_92 : decode cX2_play 92 = .ok (.goto (-26), 3) := dk_167 255 230 (dk_at dksX2_play_3 20 rfl rfl)
theorem dX2_play_95 : decode cX2_play 95 = .ok (.aload_n 0, 1) := dk_42 (dk_at dksX2_play_3 23 rfl rfl)
theorem dX2_play_96 : decode cX2_play 96 = .ok (.getfield 12, 3) := dk_180 0 12 (dk_at dksX2_play_4 0 rfl rfl)
theorem dX2_play_99 : decode cX2_play 99 = .ok (.aload_n 3, 1) := dk_45 (dk_at dksX2_play_4 3 rfl rfl)
theorem dX2_play_100 : decode cX2_play 100 = .ok (.invokevirtual 43, 3) := dk_182 0 43 (dk_at dksX2_play_4 4 rfl rfl)
theorem dX2_play_103 : decode cX2_play 103 = .ok (.istore 4, 2) := dk_54 4 (dk_at dksX2_play_4 7 rfl rfl)
theorem dX2_play_105 : decode cX2_play 105 = .ok (.aload_n 3, 1) := dk_45 (dk_at dksX2_play_4 9 rfl rfl)
theorem dX2_play_106 : decode cX2_play 106 = .ok (.invokevirtual 154, 3) := dk_182 0 154 (dk_at dksX2_play_4 10 rfl rfl)
theorem dX2_play_109 : decode cX2_play 109 = .ok (.ireturn, 1) := dk_172 (dk_at dksX2_play_4 13 rfl rfl)
abbrev cX2_checkChoice : ByteArray := prog_5_method_12_code
def yX2_checkChoice : MethodName := ⟨RX2, "checkChoice", "(II)V"⟩
def dkwX2_checkChoice_1 : List UInt8 := [191, 177]
abbrev dktX2_checkChoice_1 : List UInt8 := dkwX2_checkChoice_1 ++ []
def dkwX2_checkChoice_0 : List UInt8 := [28, 2, 159, 0, 8, 42, 28, 182, 0, 123, 167, 0, 15, 78, 187, 0, 127, 89, 27, 28, 45, 183, 0, 129]
abbrev dktX2_checkChoice_0 : List UInt8 := dkwX2_checkChoice_0 ++ dktX2_checkChoice_1
theorem dksX2_checkChoice_0 : cX2_checkChoice.data.toList.drop 0 = dktX2_checkChoice_0 := by decide +kernel
theorem dksX2_checkChoice_1 : cX2_checkChoice.data.toList.drop 24 = dktX2_checkChoice_1 := dk_seg dksX2_checkChoice_0 24 rfl rfl
theorem dX2_checkChoice_0 : decode cX2_checkChoice 0 = .ok (.iload_n 2, 1) := dk_28 (dk_at dksX2_checkChoice_0 0 rfl rfl)
theorem dX2_checkChoice_1 : decode cX2_checkChoice 1 = .ok (.iconst (-1), 1) := dk_2 (dk_at dksX2_checkChoice_0 1 rfl rfl)
theorem dX2_checkChoice_2 : decode cX2_checkChoice 2 = .ok (.if_icmp .eq 8, 3) := dk_159 0 8 (dk_at dksX2_checkChoice_0 2 rfl rfl)
theorem dX2_checkChoice_5 : decode cX2_checkChoice 5 = .ok (.aload_n 0, 1) := dk_42 (dk_at dksX2_checkChoice_0 5 rfl rfl)
theorem dX2_checkChoice_6 : decode cX2_checkChoice 6 = .ok (.iload_n 2, 1) := dk_28 (dk_at dksX2_checkChoice_0 6 rfl rfl)
theorem dX2_checkChoice_7 : decode cX2_checkChoice 7 = .ok (.invokevirtual 123, 3) := dk_182 0 123 (dk_at dksX2_checkChoice_0 7 rfl rfl)
theorem dX2_checkChoice_10 : decode cX2_checkChoice 10 = .ok (.goto 15, 3) := dk_167 0 15 (dk_at dksX2_checkChoice_0 10 rfl rfl)
theorem dX2_checkChoice_13 : decode cX2_checkChoice 13 = .ok (.astore_n 3, 1) := dk_78 (dk_at dksX2_checkChoice_0 13 rfl rfl)
theorem dX2_checkChoice_14 : decode cX2_checkChoice 14 = .ok (.new 127, 3) := dk_187 0 127 (dk_at dksX2_checkChoice_0 14 rfl rfl)
theorem dX2_checkChoice_17 : decode cX2_checkChoice 17 = .ok (.dup, 1) := dk_89 (dk_at dksX2_checkChoice_0 17 rfl rfl)
theorem dX2_checkChoice_18 : decode cX2_checkChoice 18 = .ok (.iload_n 1, 1) := dk_27 (dk_at dksX2_checkChoice_0 18 rfl rfl)
theorem dX2_checkChoice_19 : decode cX2_checkChoice 19 = .ok (.iload_n 2, 1) := dk_28 (dk_at dksX2_checkChoice_0 19 rfl rfl)
theorem dX2_checkChoice_20 : decode cX2_checkChoice 20 = .ok (.aload_n 3, 1) := dk_45 (dk_at dksX2_checkChoice_0 20 rfl rfl)
theorem dX2_checkChoice_21 : decode cX2_checkChoice 21 = .ok (.invokespecial 129, 3) := dk_183 0 129 (dk_at dksX2_checkChoice_0 21 rfl rfl)
theorem dX2_checkChoice_24 : decode cX2_checkChoice 24 = .ok (.athrow, 1) := dk_191 (dk_at dksX2_checkChoice_1 0 rfl rfl)
theorem dX2_checkChoice_25 : decode cX2_checkChoice 25 = .ok (.return_, 1) := dk_177 (dk_at dksX2_checkChoice_1 1 rfl rfl)
abbrev cX2_checkCell : ByteArray := prog_5_method_11_code
def yX2_checkCell : MethodName := ⟨RX2, "checkCell", "(I)V"⟩
def dkwX2_checkCell_3 : List UInt8 := [29, 182, 0, 115, 180, 0, 119, 21, 4, 46, 183, 0, 122, 183, 0, 110, 191]
abbrev dktX2_checkCell_3 : List UInt8 := dkwX2_checkCell_3 ++ []
def dkwX2_checkCell_2 : List UInt8 := [187, 0, 108, 89, 28, 29, 1, 183, 0, 110, 191, 187, 0, 108, 89, 28, 29, 187, 0, 113, 89, 21, 4, 42]
abbrev dktX2_checkCell_2 : List UInt8 := dkwX2_checkCell_2 ++ dktX2_checkCell_3
def dkwX2_checkCell_1 : List UInt8 := [180, 0, 103, 27, 46, 62, 42, 182, 0, 65, 180, 0, 105, 27, 46, 54, 4, 21, 4, 2, 160, 0, 14]
abbrev dktX2_checkCell_1 : List UInt8 := dkwX2_checkCell_1 ++ dktX2_checkCell_2
def dkwX2_checkCell_0 : List UInt8 := [42, 182, 0, 81, 42, 180, 0, 34, 27, 182, 0, 99, 61, 28, 154, 0, 4, 177, 42, 182, 0, 65]
abbrev dktX2_checkCell_0 : List UInt8 := dkwX2_checkCell_0 ++ dktX2_checkCell_1
theorem dksX2_checkCell_0 : cX2_checkCell.data.toList.drop 0 = dktX2_checkCell_0 := by decide +kernel
theorem dksX2_checkCell_1 : cX2_checkCell.data.toList.drop 22 = dktX2_checkCell_1 := dk_seg dksX2_checkCell_0 22 rfl rfl
theorem dksX2_checkCell_2 : cX2_checkCell.data.toList.drop 45 = dktX2_checkCell_2 := dk_seg dksX2_checkCell_1 23 rfl rfl
theorem dksX2_checkCell_3 : cX2_checkCell.data.toList.drop 69 = dktX2_checkCell_3 := dk_seg dksX2_checkCell_2 24 rfl rfl
theorem dX2_checkCell_0 : decode cX2_checkCell 0 = .ok (.aload_n 0, 1) := dk_42 (dk_at dksX2_checkCell_0 0 rfl rfl)
theorem dX2_checkCell_1 : decode cX2_checkCell 1 = .ok (.invokevirtual 81, 3) := dk_182 0 81 (dk_at dksX2_checkCell_0 1 rfl rfl)
theorem dX2_checkCell_4 : decode cX2_checkCell 4 = .ok (.aload_n 0, 1) := dk_42 (dk_at dksX2_checkCell_0 4 rfl rfl)
theorem dX2_checkCell_5 : decode cX2_checkCell 5 = .ok (.getfield 34, 3) := dk_180 0 34 (dk_at dksX2_checkCell_0 5 rfl rfl)
theorem dX2_checkCell_8 : decode cX2_checkCell 8 = .ok (.iload_n 1, 1) := dk_27 (dk_at dksX2_checkCell_0 8 rfl rfl)
theorem dX2_checkCell_9 : decode cX2_checkCell 9 = .ok (.invokevirtual 99, 3) := dk_182 0 99 (dk_at dksX2_checkCell_0 9 rfl rfl)
theorem dX2_checkCell_12 : decode cX2_checkCell 12 = .ok (.istore_n 2, 1) := dk_61 (dk_at dksX2_checkCell_0 12 rfl rfl)
theorem dX2_checkCell_13 : decode cX2_checkCell 13 = .ok (.iload_n 2, 1) := dk_28 (dk_at dksX2_checkCell_0 13 rfl rfl)
theorem dX2_checkCell_14 : decode cX2_checkCell 14 = .ok (.ifCond .ne 4, 3) := dk_154 0 4 (dk_at dksX2_checkCell_0 14 rfl rfl)
theorem dX2_checkCell_17 : decode cX2_checkCell 17 = .ok (.return_, 1) := dk_177 (dk_at dksX2_checkCell_0 17 rfl rfl)
theorem dX2_checkCell_18 : decode cX2_checkCell 18 = .ok (.aload_n 0, 1) := dk_42 (dk_at dksX2_checkCell_0 18 rfl rfl)
theorem dX2_checkCell_19 : decode cX2_checkCell 19 = .ok (.invokevirtual 65, 3) := dk_182 0 65 (dk_at dksX2_checkCell_0 19 rfl rfl)
theorem dX2_checkCell_22 : decode cX2_checkCell 22 = .ok (.getfield 103, 3) := dk_180 0 103 (dk_at dksX2_checkCell_1 0 rfl rfl)
theorem dX2_checkCell_25 : decode cX2_checkCell 25 = .ok (.iload_n 1, 1) := dk_27 (dk_at dksX2_checkCell_1 3 rfl rfl)
theorem dX2_checkCell_26 : decode cX2_checkCell 26 = .ok (.iaload, 1) := dk_46 (dk_at dksX2_checkCell_1 4 rfl rfl)
theorem dX2_checkCell_27 : decode cX2_checkCell 27 = .ok (.istore_n 3, 1) := dk_62 (dk_at dksX2_checkCell_1 5 rfl rfl)
theorem dX2_checkCell_28 : decode cX2_checkCell 28 = .ok (.aload_n 0, 1) := dk_42 (dk_at dksX2_checkCell_1 6 rfl rfl)
theorem dX2_checkCell_29 : decode cX2_checkCell 29 = .ok (.invokevirtual 65, 3) := dk_182 0 65 (dk_at dksX2_checkCell_1 7 rfl rfl)
theorem dX2_checkCell_32 : decode cX2_checkCell 32 = .ok (.getfield 105, 3) := dk_180 0 105 (dk_at dksX2_checkCell_1 10 rfl rfl)
theorem dX2_checkCell_35 : decode cX2_checkCell 35 = .ok (.iload_n 1, 1) := dk_27 (dk_at dksX2_checkCell_1 13 rfl rfl)
theorem dX2_checkCell_36 : decode cX2_checkCell 36 = .ok (.iaload, 1) := dk_46 (dk_at dksX2_checkCell_1 14 rfl rfl)
theorem dX2_checkCell_37 : decode cX2_checkCell 37 = .ok (.istore 4, 2) := dk_54 4 (dk_at dksX2_checkCell_1 15 rfl rfl)
theorem dX2_checkCell_39 : decode cX2_checkCell 39 = .ok (.iload 4, 2) := dk_21 4 (dk_at dksX2_checkCell_1 17 rfl rfl)
theorem dX2_checkCell_41 : decode cX2_checkCell 41 = .ok (.iconst (-1), 1) := dk_2 (dk_at dksX2_checkCell_1 19 rfl rfl)
theorem dX2_checkCell_42 : decode cX2_checkCell 42 = .ok (.if_icmp .ne 14, 3) := dk_160 0 14 (dk_at dksX2_checkCell_1 20 rfl rfl)
theorem dX2_checkCell_45 : decode cX2_checkCell 45 = .ok (.new 108, 3) := dk_187 0 108 (dk_at dksX2_checkCell_2 0 rfl rfl)
theorem dX2_checkCell_48 : decode cX2_checkCell 48 = .ok (.dup, 1) := dk_89 (dk_at dksX2_checkCell_2 3 rfl rfl)
theorem dX2_checkCell_49 : decode cX2_checkCell 49 = .ok (.iload_n 2, 1) := dk_28 (dk_at dksX2_checkCell_2 4 rfl rfl)
theorem dX2_checkCell_50 : decode cX2_checkCell 50 = .ok (.iload_n 3, 1) := dk_29 (dk_at dksX2_checkCell_2 5 rfl rfl)
theorem dX2_checkCell_51 : decode cX2_checkCell 51 = .ok (.aconst_null, 1) := dk_1 (dk_at dksX2_checkCell_2 6 rfl rfl)
theorem dX2_checkCell_52 : decode cX2_checkCell 52 = .ok (.invokespecial 110, 3) := dk_183 0 110 (dk_at dksX2_checkCell_2 7 rfl rfl)
theorem dX2_checkCell_55 : decode cX2_checkCell 55 = .ok (.athrow, 1) := dk_191 (dk_at dksX2_checkCell_2 10 rfl rfl)
theorem dX2_checkCell_56 : decode cX2_checkCell 56 = .ok (.new 108, 3) := dk_187 0 108 (dk_at dksX2_checkCell_2 11 rfl rfl)
theorem dX2_checkCell_59 : decode cX2_checkCell 59 = .ok (.dup, 1) := dk_89 (dk_at dksX2_checkCell_2 14 rfl rfl)
theorem dX2_checkCell_60 : decode cX2_checkCell 60 = .ok (.iload_n 2, 1) := dk_28 (dk_at dksX2_checkCell_2 15 rfl rfl)
theorem dX2_checkCell_61 : decode cX2_checkCell 61 = .ok (.iload_n 3, 1) := dk_29 (dk_at dksX2_checkCell_2 16 rfl rfl)
theorem dX2_checkCell_62 : decode cX2_checkCell 62 = .ok (.new 113, 3) := dk_187 0 113 (dk_at dksX2_checkCell_2 17 rfl rfl)
theorem dX2_checkCell_65 : decode cX2_checkCell 65 = .ok (.dup, 1) := dk_89 (dk_at dksX2_checkCell_2 20 rfl rfl)
theorem dX2_checkCell_66 : decode cX2_checkCell 66 = .ok (.iload 4, 2) := dk_21 4 (dk_at dksX2_checkCell_2 21 rfl rfl)
theorem dX2_checkCell_68 : decode cX2_checkCell 68 = .ok (.aload_n 0, 1) := dk_42 (dk_at dksX2_checkCell_2 23 rfl rfl)
theorem dX2_checkCell_69 : decode cX2_checkCell 69 = .ok (.iload_n 3, 1) := dk_29 (dk_at dksX2_checkCell_3 0 rfl rfl)
theorem dX2_checkCell_70 : decode cX2_checkCell 70 = .ok (.invokevirtual 115, 3) := dk_182 0 115 (dk_at dksX2_checkCell_3 1 rfl rfl)
theorem dX2_checkCell_73 : decode cX2_checkCell 73 = .ok (.getfield 119, 3) := dk_180 0 119 (dk_at dksX2_checkCell_3 4 rfl rfl)
theorem dX2_checkCell_76 : decode cX2_checkCell 76 = .ok (.iload 4, 2) := dk_21 4 (dk_at dksX2_checkCell_3 7 rfl rfl)
theorem dX2_checkCell_78 : decode cX2_checkCell 78 = .ok (.iaload, 1) := dk_46 (dk_at dksX2_checkCell_3 9 rfl rfl)
theorem dX2_checkCell_79 : decode cX2_checkCell 79 = .ok (.invokespecial 122, 3) := dk_183 0 122 (dk_at dksX2_checkCell_3 10 rfl rfl)
theorem dX2_checkCell_82 : decode cX2_checkCell 82 = .ok (.invokespecial 110, 3) := dk_183 0 110 (dk_at dksX2_checkCell_3 13 rfl rfl)
theorem dX2_checkCell_85 : decode cX2_checkCell 85 = .ok (.athrow, 1) := dk_191 (dk_at dksX2_checkCell_3 16 rfl rfl)
abbrev cX2_round : ByteArray := prog_5_method_4_code
def yX2_round : MethodName := ⟨RX2, "round", "(I)LEnclosureReferee$Round;"⟩
def dkwX2_round_0 : List UInt8 := [42, 180, 0, 12, 27, 4, 96, 182, 0, 61, 192, 0, 38, 176]
abbrev dktX2_round_0 : List UInt8 := dkwX2_round_0 ++ []
theorem dksX2_round_0 : cX2_round.data.toList.drop 0 = dktX2_round_0 := by decide +kernel
theorem dX2_round_0 : decode cX2_round 0 = .ok (.aload_n 0, 1) := dk_42 (dk_at dksX2_round_0 0 rfl rfl)
theorem dX2_round_1 : decode cX2_round 1 = .ok (.getfield 12, 3) := dk_180 0 12 (dk_at dksX2_round_0 1 rfl rfl)
theorem dX2_round_4 : decode cX2_round 4 = .ok (.iload_n 1, 1) := dk_27 (dk_at dksX2_round_0 4 rfl rfl)
theorem dX2_round_5 : decode cX2_round 5 = .ok (.iconst 1, 1) := dk_4 (dk_at dksX2_round_0 5 rfl rfl)
theorem dX2_round_6 : decode cX2_round 6 = .ok (.iadd, 1) := dk_96 (dk_at dksX2_round_0 6 rfl rfl)
theorem dX2_round_7 : decode cX2_round 7 = .ok (.invokevirtual 61, 3) := dk_182 0 61 (dk_at dksX2_round_0 7 rfl rfl)
theorem dX2_round_10 : decode cX2_round 10 = .ok (.checkcast 38, 3) := dk_192 0 38 (dk_at dksX2_round_0 10 rfl rfl)
theorem dX2_round_13 : decode cX2_round 13 = .ok (.areturn, 1) := dk_176 (dk_at dksX2_round_0 13 rfl rfl)
abbrev cX2_clash : ByteArray := prog_5_method_10_code
def yX2_clash : MethodName := ⟨RX2, "clash", "(LEnclosureReferee$Board;)I"⟩
def dkwX2_clash_2 : List UInt8 := [167, 0, 12, 28, 156, 0, 7, 4, 167, 0, 4, 5, 172]
abbrev dktX2_clash_2 : List UInt8 := dkwX2_clash_2 ++ []
def dkwX2_clash_1 : List UInt8 := [180, 0, 47, 4, 159, 0, 9, 28, 154, 0, 5, 8, 172, 42, 180, 0, 47, 4, 160, 0, 7, 3]
abbrev dktX2_clash_1 : List UInt8 := dkwX2_clash_1 ++ dktX2_clash_2
def dkwX2_clash_0 : List UInt8 := [42, 43, 3, 182, 0, 95, 42, 43, 4, 182, 0, 95, 100, 61, 42, 180, 0, 47, 153, 0, 15, 42]
abbrev dktX2_clash_0 : List UInt8 := dkwX2_clash_0 ++ dktX2_clash_1
theorem dksX2_clash_0 : cX2_clash.data.toList.drop 0 = dktX2_clash_0 := by decide +kernel
theorem dksX2_clash_1 : cX2_clash.data.toList.drop 22 = dktX2_clash_1 := dk_seg dksX2_clash_0 22 rfl rfl
theorem dksX2_clash_2 : cX2_clash.data.toList.drop 44 = dktX2_clash_2 := dk_seg dksX2_clash_1 22 rfl rfl
theorem dX2_clash_0 : decode cX2_clash 0 = .ok (.aload_n 0, 1) := dk_42 (dk_at dksX2_clash_0 0 rfl rfl)
theorem dX2_clash_1 : decode cX2_clash 1 = .ok (.aload_n 1, 1) := dk_43 (dk_at dksX2_clash_0 1 rfl rfl)
theorem dX2_clash_2 : decode cX2_clash 2 = .ok (.iconst 0, 1) := dk_3 (dk_at dksX2_clash_0 2 rfl rfl)
theorem dX2_clash_3 : decode cX2_clash 3 = .ok (.invokevirtual 95, 3) := dk_182 0 95 (dk_at dksX2_clash_0 3 rfl rfl)
theorem dX2_clash_6 : decode cX2_clash 6 = .ok (.aload_n 0, 1) := dk_42 (dk_at dksX2_clash_0 6 rfl rfl)
theorem dX2_clash_7 : decode cX2_clash 7 = .ok (.aload_n 1, 1) := dk_43 (dk_at dksX2_clash_0 7 rfl rfl)
theorem dX2_clash_8 : decode cX2_clash 8 = .ok (.iconst 1, 1) := dk_4 (dk_at dksX2_clash_0 8 rfl rfl)
theorem dX2_clash_9 : decode cX2_clash 9 = .ok (.invokevirtual 95, 3) := dk_182 0 95 (dk_at dksX2_clash_0 9 rfl rfl)
theorem dX2_clash_12 : decode cX2_clash 12 = .ok (.isub, 1) := dk_100 (dk_at dksX2_clash_0 12 rfl rfl)
theorem dX2_clash_13 : decode cX2_clash 13 = .ok (.istore_n 2, 1) := dk_61 (dk_at dksX2_clash_0 13 rfl rfl)
theorem dX2_clash_14 : decode cX2_clash 14 = .ok (.aload_n 0, 1) := dk_42 (dk_at dksX2_clash_0 14 rfl rfl)
theorem dX2_clash_15 : decode cX2_clash 15 = .ok (.getfield 47, 3) := dk_180 0 47 (dk_at dksX2_clash_0 15 rfl rfl)
theorem dX2_clash_18 : decode cX2_clash 18 = .ok (.ifCond .eq 15, 3) := dk_153 0 15 (dk_at dksX2_clash_0 18 rfl rfl)
theorem dX2_clash_21 : decode cX2_clash 21 = .ok (.aload_n 0, 1) := dk_42 (dk_at dksX2_clash_0 21 rfl rfl)
theorem dX2_clash_22 : decode cX2_clash 22 = .ok (.getfield 47, 3) := dk_180 0 47 (dk_at dksX2_clash_1 0 rfl rfl)
theorem dX2_clash_25 : decode cX2_clash 25 = .ok (.iconst 1, 1) := dk_4 (dk_at dksX2_clash_1 3 rfl rfl)
theorem dX2_clash_26 : decode cX2_clash 26 = .ok (.if_icmp .eq 9, 3) := dk_159 0 9 (dk_at dksX2_clash_1 4 rfl rfl)
theorem dX2_clash_29 : decode cX2_clash 29 = .ok (.iload_n 2, 1) := dk_28 (dk_at dksX2_clash_1 7 rfl rfl)
theorem dX2_clash_30 : decode cX2_clash 30 = .ok (.ifCond .ne 5, 3) := dk_154 0 5 (dk_at dksX2_clash_1 8 rfl rfl)
theorem dX2_clash_33 : decode cX2_clash 33 = .ok (.iconst 5, 1) := dk_8 (dk_at dksX2_clash_1 11 rfl rfl)
theorem dX2_clash_34 : decode cX2_clash 34 = .ok (.ireturn, 1) := dk_172 (dk_at dksX2_clash_1 12 rfl rfl)
theorem dX2_clash_35 : decode cX2_clash 35 = .ok (.aload_n 0, 1) := dk_42 (dk_at dksX2_clash_1 13 rfl rfl)
theorem dX2_clash_36 : decode cX2_clash 36 = .ok (.getfield 47, 3) := dk_180 0 47 (dk_at dksX2_clash_1 14 rfl rfl)
theorem dX2_clash_39 : decode cX2_clash 39 = .ok (.iconst 1, 1) := dk_4 (dk_at dksX2_clash_1 17 rfl rfl)
theorem dX2_clash_40 : decode cX2_clash 40 = .ok (.if_icmp .ne 7, 3) := dk_160 0 7 (dk_at dksX2_clash_1 18 rfl rfl)
theorem dX2_clash_43 : decode cX2_clash 43 = .ok (.iconst 0, 1) := dk_3 (dk_at dksX2_clash_1 21 rfl rfl)
theorem dX2_clash_44 : decode cX2_clash 44 = .ok (.goto 12, 3) := dk_167 0 12 (dk_at dksX2_clash_2 0 rfl rfl)
theorem dX2_clash_47 : decode cX2_clash 47 = .ok (.iload_n 2, 1) := dk_28 (dk_at dksX2_clash_2 3 rfl rfl)
theorem dX2_clash_48 : decode cX2_clash 48 = .ok (.ifCond .ge 7, 3) := dk_156 0 7 (dk_at dksX2_clash_2 4 rfl rfl)
theorem dX2_clash_51 : decode cX2_clash 51 = .ok (.iconst 1, 1) := dk_4 (dk_at dksX2_clash_2 7 rfl rfl)
theorem dX2_clash_52 : decode cX2_clash 52 = .ok (.goto 4, 3) := dk_167 0 4 (dk_at dksX2_clash_2 8 rfl rfl)
theorem dX2_clash_55 : decode cX2_clash 55 = .ok (.iconst 2, 1) := dk_5 (dk_at dksX2_clash_2 11 rfl rfl)
theorem dX2_clash_56 : decode cX2_clash 56 = .ok (.ireturn, 1) := dk_172 (dk_at dksX2_clash_2 12 rfl rfl)
abbrev cX2_score : ByteArray := prog_5_method_7_code
def yX2_score : MethodName := ⟨RX2, "score", "(LEnclosureReferee$Board;I)I"⟩
def dkwX2_score_0 : List UInt8 := [43, 28, 182, 0, 73, 42, 180, 0, 18, 28, 46, 96, 172]
abbrev dktX2_score_0 : List UInt8 := dkwX2_score_0 ++ []
theorem dksX2_score_0 : cX2_score.data.toList.drop 0 = dktX2_score_0 := by decide +kernel
theorem dX2_score_0 : decode cX2_score 0 = .ok (.aload_n 1, 1) := dk_43 (dk_at dksX2_score_0 0 rfl rfl)
theorem dX2_score_1 : decode cX2_score 1 = .ok (.iload_n 2, 1) := dk_28 (dk_at dksX2_score_0 1 rfl rfl)
theorem dX2_score_2 : decode cX2_score 2 = .ok (.invokevirtual 73, 3) := dk_182 0 73 (dk_at dksX2_score_0 2 rfl rfl)
theorem dX2_score_5 : decode cX2_score 5 = .ok (.aload_n 0, 1) := dk_42 (dk_at dksX2_score_0 5 rfl rfl)
theorem dX2_score_6 : decode cX2_score 6 = .ok (.getfield 18, 3) := dk_180 0 18 (dk_at dksX2_score_0 6 rfl rfl)
theorem dX2_score_9 : decode cX2_score 9 = .ok (.iload_n 2, 1) := dk_28 (dk_at dksX2_score_0 9 rfl rfl)
theorem dX2_score_10 : decode cX2_score 10 = .ok (.iaload, 1) := dk_46 (dk_at dksX2_score_0 10 rfl rfl)
theorem dX2_score_11 : decode cX2_score 11 = .ok (.iadd, 1) := dk_96 (dk_at dksX2_score_0 11 rfl rfl)
theorem dX2_score_12 : decode cX2_score 12 = .ok (.ireturn, 1) := dk_172 (dk_at dksX2_score_0 12 rfl rfl)
abbrev cX2_stonesToEnclose : ByteArray := prog_5_method_21_code
def yX2_stonesToEnclose : MethodName := ⟨RX2, "stonesToEnclose", "(II)I"⟩
def dkwX2_stonesToEnclose_5 : List UInt8 := [167, 0, 4, 5, 54, 5, 132, 7, 1, 167, 255, 183, 132, 6, 1, 167, 255, 155, 21, 5, 172]
abbrev dktX2_stonesToEnclose_5 : List UInt8 := dkwX2_stonesToEnclose_5 ++ []
def dkwX2_stonesToEnclose_4 : List UInt8 := [184, 0, 221, 21, 7, 184, 0, 221, 129, 182, 0, 217, 153, 0, 17, 21, 6, 21, 7, 160, 0, 7, 4]
abbrev dktX2_stonesToEnclose_4 : List UInt8 := dkwX2_stonesToEnclose_4 ++ dktX2_stonesToEnclose_5
def dkwX2_stonesToEnclose_3 : List UInt8 := [153, 0, 58, 21, 5, 4, 159, 0, 52, 33, 21, 7, 184, 0, 179, 153, 0, 37, 42, 27, 28, 21, 6]
abbrev dktX2_stonesToEnclose_3 : List UInt8 := dkwX2_stonesToEnclose_3 ++ dktX2_stonesToEnclose_4
def dkwX2_stonesToEnclose_2 : List UInt8 := [21, 6, 54, 7, 21, 7, 42, 180, 0, 34, 182, 0, 176, 162, 0, 67, 33, 21, 6, 184, 0, 179]
abbrev dktX2_stonesToEnclose_2 : List UInt8 := dkwX2_stonesToEnclose_2 ++ dktX2_stonesToEnclose_3
def dkwX2_stonesToEnclose_1 : List UInt8 := [2, 54, 5, 3, 54, 6, 21, 6, 42, 180, 0, 34, 182, 0, 176, 162, 0, 95, 21, 5, 4, 159, 0, 89]
abbrev dktX2_stonesToEnclose_1 : List UInt8 := dkwX2_stonesToEnclose_1 ++ dktX2_stonesToEnclose_2
def dkwX2_stonesToEnclose_0 : List UInt8 := [42, 27, 28, 9, 182, 0, 217, 153, 0, 5, 3, 172, 42, 182, 0, 81, 42, 180, 0, 34, 182, 0, 77, 66]
abbrev dktX2_stonesToEnclose_0 : List UInt8 := dkwX2_stonesToEnclose_0 ++ dktX2_stonesToEnclose_1
theorem dksX2_stonesToEnclose_0 : cX2_stonesToEnclose.data.toList.drop 0 = dktX2_stonesToEnclose_0 := by decide +kernel
theorem dksX2_stonesToEnclose_1 : cX2_stonesToEnclose.data.toList.drop 24 = dktX2_stonesToEnclose_1 := dk_seg dksX2_stonesToEnclose_0 24 rfl rfl
theorem dksX2_stonesToEnclose_2 : cX2_stonesToEnclose.data.toList.drop 48 = dktX2_stonesToEnclose_2 := dk_seg dksX2_stonesToEnclose_1 24 rfl rfl
theorem dksX2_stonesToEnclose_3 : cX2_stonesToEnclose.data.toList.drop 70 = dktX2_stonesToEnclose_3 := dk_seg dksX2_stonesToEnclose_2 22 rfl rfl
theorem dksX2_stonesToEnclose_4 : cX2_stonesToEnclose.data.toList.drop 93 = dktX2_stonesToEnclose_4 := dk_seg dksX2_stonesToEnclose_3 23 rfl rfl
theorem dksX2_stonesToEnclose_5 : cX2_stonesToEnclose.data.toList.drop 116 = dktX2_stonesToEnclose_5 := dk_seg dksX2_stonesToEnclose_4 23 rfl rfl
theorem dX2_stonesToEnclose_0 : decode cX2_stonesToEnclose 0 = .ok (.aload_n 0, 1) := dk_42 (dk_at dksX2_stonesToEnclose_0 0 rfl rfl)
theorem dX2_stonesToEnclose_1 : decode cX2_stonesToEnclose 1 = .ok (.iload_n 1, 1) := dk_27 (dk_at dksX2_stonesToEnclose_0 1 rfl rfl)
theorem dX2_stonesToEnclose_2 : decode cX2_stonesToEnclose 2 = .ok (.iload_n 2, 1) := dk_28 (dk_at dksX2_stonesToEnclose_0 2 rfl rfl)
theorem dX2_stonesToEnclose_3 : decode cX2_stonesToEnclose 3 = .ok (.lconst 0, 1) := dk_9 (dk_at dksX2_stonesToEnclose_0 3 rfl rfl)
theorem dX2_stonesToEnclose_4 : decode cX2_stonesToEnclose 4 = .ok (.invokevirtual 217, 3) := dk_182 0 217 (dk_at dksX2_stonesToEnclose_0 4 rfl rfl)
theorem dX2_stonesToEnclose_7 : decode cX2_stonesToEnclose 7 = .ok (.ifCond .eq 5, 3) := dk_153 0 5 (dk_at dksX2_stonesToEnclose_0 7 rfl rfl)
theorem dX2_stonesToEnclose_10 : decode cX2_stonesToEnclose 10 = .ok (.iconst 0, 1) := dk_3 (dk_at dksX2_stonesToEnclose_0 10 rfl rfl)
theorem dX2_stonesToEnclose_11 : decode cX2_stonesToEnclose 11 = .ok (.ireturn, 1) := dk_172 (dk_at dksX2_stonesToEnclose_0 11 rfl rfl)
theorem dX2_stonesToEnclose_12 : decode cX2_stonesToEnclose 12 = .ok (.aload_n 0, 1) := dk_42 (dk_at dksX2_stonesToEnclose_0 12 rfl rfl)
theorem dX2_stonesToEnclose_13 : decode cX2_stonesToEnclose 13 = .ok (.invokevirtual 81, 3) := dk_182 0 81 (dk_at dksX2_stonesToEnclose_0 13 rfl rfl)
theorem dX2_stonesToEnclose_16 : decode cX2_stonesToEnclose 16 = .ok (.aload_n 0, 1) := dk_42 (dk_at dksX2_stonesToEnclose_0 16 rfl rfl)
theorem dX2_stonesToEnclose_17 : decode cX2_stonesToEnclose 17 = .ok (.getfield 34, 3) := dk_180 0 34 (dk_at dksX2_stonesToEnclose_0 17 rfl rfl)
theorem dX2_stonesToEnclose_20 : decode cX2_stonesToEnclose 20 = .ok (.invokevirtual 77, 3) := dk_182 0 77 (dk_at dksX2_stonesToEnclose_0 20 rfl rfl)
theorem dX2_stonesToEnclose_23 : decode cX2_stonesToEnclose 23 = .ok (.lstore_n 3, 1) := dk_66 (dk_at dksX2_stonesToEnclose_0 23 rfl rfl)
theorem dX2_stonesToEnclose_24 : decode cX2_stonesToEnclose 24 = .ok (.iconst (-1), 1) := dk_2 (dk_at dksX2_stonesToEnclose_1 0 rfl rfl)
theorem dX2_stonesToEnclose_25 : decode cX2_stonesToEnclose 25 = .ok (.istore 5, 2) := dk_54 5 (dk_at dksX2_stonesToEnclose_1 1 rfl rfl)
theorem dX2_stonesToEnclose_27 : decode cX2_stonesToEnclose 27 = .ok (.iconst 0, 1) := dk_3 (dk_at dksX2_stonesToEnclose_1 3 rfl rfl)
theorem dX2_stonesToEnclose_28 : decode cX2_stonesToEnclose 28 = .ok (.istore 6, 2) := dk_54 6 (dk_at dksX2_stonesToEnclose_1 4 rfl rfl)
theorem dX2_stonesToEnclose_30 : decode cX2_stonesToEnclose 30 = .ok (.iload 6, 2) := dk_21 6 (dk_at dksX2_stonesToEnclose_1 6 rfl rfl)
theorem dX2_stonesToEnclose_32 : decode cX2_stonesToEnclose 32 = .ok (.aload_n 0, 1) := dk_42 (dk_at dksX2_stonesToEnclose_1 8 rfl rfl)
theorem dX2_stonesToEnclose_33 : decode cX2_stonesToEnclose 33 = .ok (.getfield 34, 3) := dk_180 0 34 (dk_at dksX2_stonesToEnclose_1 9 rfl rfl)
theorem dX2_stonesToEnclose_36 : decode cX2_stonesToEnclose 36 = .ok (.invokevirtual 176, 3) := dk_182 0 176 (dk_at dksX2_stonesToEnclose_1 12 rfl rfl)
theorem dX2_stonesToEnclose_39 : decode cX2_stonesToEnclose 39 = .ok (.if_icmp .ge 95, 3) := dk_162 0 95 (dk_at dksX2_stonesToEnclose_1 15 rfl rfl)
theorem dX2_stonesToEnclose_42 : decode cX2_stonesToEnclose 42 = .ok (.iload 5, 2) := dk_21 5 (dk_at dksX2_stonesToEnclose_1 18 rfl rfl)
theorem dX2_stonesToEnclose_44 : decode cX2_stonesToEnclose 44 = .ok (.iconst 1, 1) := dk_4 (dk_at dksX2_stonesToEnclose_1 20 rfl rfl)
theorem dX2_stonesToEnclose_45 : decode cX2_stonesToEnclose 45 = .ok (.if_icmp .eq 89, 3) := dk_159 0 89 (dk_at dksX2_stonesToEnclose_1 21 rfl rfl)
theorem dX2_stonesToEnclose_48 : decode cX2_stonesToEnclose 48 = .ok (.iload 6, 2) := dk_21 6 (dk_at dksX2_stonesToEnclose_2 0 rfl rfl)
theorem dX2_stonesToEnclose_50 : decode cX2_stonesToEnclose 50 = .ok (.istore 7, 2) := dk_54 7 (dk_at dksX2_stonesToEnclose_2 2 rfl rfl)
theorem dX2_stonesToEnclose_52 : decode cX2_stonesToEnclose 52 = .ok (.iload 7, 2) := dk_21 7 (dk_at dksX2_stonesToEnclose_2 4 rfl rfl)
theorem dX2_stonesToEnclose_54 : decode cX2_stonesToEnclose 54 = .ok (.aload_n 0, 1) := dk_42 (dk_at dksX2_stonesToEnclose_2 6 rfl rfl)
theorem dX2_stonesToEnclose_55 : decode cX2_stonesToEnclose 55 = .ok (.getfield 34, 3) := dk_180 0 34 (dk_at dksX2_stonesToEnclose_2 7 rfl rfl)
theorem dX2_stonesToEnclose_58 : decode cX2_stonesToEnclose 58 = .ok (.invokevirtual 176, 3) := dk_182 0 176 (dk_at dksX2_stonesToEnclose_2 10 rfl rfl)
theorem dX2_stonesToEnclose_61 : decode cX2_stonesToEnclose 61 = .ok (.if_icmp .ge 67, 3) := dk_162 0 67 (dk_at dksX2_stonesToEnclose_2 13 rfl rfl)
theorem dX2_stonesToEnclose_64 : decode cX2_stonesToEnclose 64 = .ok (.lload_n 3, 1) := dk_33 (dk_at dksX2_stonesToEnclose_2 16 rfl rfl)
theorem dX2_stonesToEnclose_65 : decode cX2_stonesToEnclose 65 = .ok (.iload 6, 2) := dk_21 6 (dk_at dksX2_stonesToEnclose_2 17 rfl rfl)
theorem dX2_stonesToEnclose_67 : decode cX2_stonesToEnclose 67 = .ok (.invokestatic 179, 3) := dk_184 0 179 (dk_at dksX2_stonesToEnclose_2 19 rfl rfl)
theorem dX2_stonesToEnclose_70 : decode cX2_stonesToEnclose 70 = .ok (.ifCond .eq 58, 3) := dk_153 0 58 (dk_at dksX2_stonesToEnclose_3 0 rfl rfl)
theorem dX2_stonesToEnclose_73 : decode cX2_stonesToEnclose 73 = .ok (.iload 5, 2) := dk_21 5 (dk_at dksX2_stonesToEnclose_3 3 rfl rfl)
theorem dX2_stonesToEnclose_75 : decode cX2_stonesToEnclose 75 = .ok (.iconst 1, 1) := dk_4 (dk_at dksX2_stonesToEnclose_3 5 rfl rfl)
theorem dX2_stonesToEnclose_76 : decode cX2_stonesToEnclose 76 = .ok (.if_icmp .eq 52, 3) := dk_159 0 52 (dk_at dksX2_stonesToEnclose_3 6 rfl rfl)
theorem dX2_stonesToEnclose_79 : decode cX2_stonesToEnclose 79 = .ok (.lload_n 3, 1) := dk_33 (dk_at dksX2_stonesToEnclose_3 9 rfl rfl)
theorem dX2_stonesToEnclose_80 : decode cX2_stonesToEnclose 80 = .ok (.iload 7, 2) := dk_21 7 (dk_at dksX2_stonesToEnclose_3 10 rfl rfl)
theorem dX2_stonesToEnclose_82 : decode cX2_stonesToEnclose 82 = .ok (.invokestatic 179, 3) := dk_184 0 179 (dk_at dksX2_stonesToEnclose_3 12 rfl rfl)
theorem dX2_stonesToEnclose_85 : decode cX2_stonesToEnclose 85 = .ok (.ifCond .eq 37, 3) := dk_153 0 37 (dk_at dksX2_stonesToEnclose_3 15 rfl rfl)
theorem dX2_stonesToEnclose_88 : decode cX2_stonesToEnclose 88 = .ok (.aload_n 0, 1) := dk_42 (dk_at dksX2_stonesToEnclose_3 18 rfl rfl)
theorem dX2_stonesToEnclose_89 : decode cX2_stonesToEnclose 89 = .ok (.iload_n 1, 1) := dk_27 (dk_at dksX2_stonesToEnclose_3 19 rfl rfl)
theorem dX2_stonesToEnclose_90 : decode cX2_stonesToEnclose 90 = .ok (.iload_n 2, 1) := dk_28 (dk_at dksX2_stonesToEnclose_3 20 rfl rfl)
theorem dX2_stonesToEnclose_91 : decode cX2_stonesToEnclose 91 = .ok (.iload 6, 2) := dk_21 6 (dk_at dksX2_stonesToEnclose_3 21 rfl rfl)
theorem dX2_stonesToEnclose_93 : decode cX2_stonesToEnclose 93 = .ok (.invokestatic 221, 3) := dk_184 0 221 (dk_at dksX2_stonesToEnclose_4 0 rfl rfl)
theorem dX2_stonesToEnclose_96 : decode cX2_stonesToEnclose 96 = .ok (.iload 7, 2) := dk_21 7 (dk_at dksX2_stonesToEnclose_4 3 rfl rfl)
theorem dX2_stonesToEnclose_98 : decode cX2_stonesToEnclose 98 = .ok (.invokestatic 221, 3) := dk_184 0 221 (dk_at dksX2_stonesToEnclose_4 5 rfl rfl)
theorem dX2_stonesToEnclose_101 : decode cX2_stonesToEnclose 101 = .ok (.lor, 1) := dk_129 (dk_at dksX2_stonesToEnclose_4 8 rfl rfl)
theorem dX2_stonesToEnclose_102 : decode cX2_stonesToEnclose 102 = .ok (.invokevirtual 217, 3) := dk_182 0 217 (dk_at dksX2_stonesToEnclose_4 9 rfl rfl)
theorem dX2_stonesToEnclose_105 : decode cX2_stonesToEnclose 105 = .ok (.ifCond .eq 17, 3) := dk_153 0 17 (dk_at dksX2_stonesToEnclose_4 12 rfl rfl)
theorem dX2_stonesToEnclose_108 : decode cX2_stonesToEnclose 108 = .ok (.iload 6, 2) := dk_21 6 (dk_at dksX2_stonesToEnclose_4 15 rfl rfl)
theorem dX2_stonesToEnclose_110 : decode cX2_stonesToEnclose 110 = .ok (.iload 7, 2) := dk_21 7 (dk_at dksX2_stonesToEnclose_4 17 rfl rfl)
theorem dX2_stonesToEnclose_112 : decode cX2_stonesToEnclose 112 = .ok (.if_icmp .ne 7, 3) := dk_160 0 7 (dk_at dksX2_stonesToEnclose_4 19 rfl rfl)
theorem dX2_stonesToEnclose_115 : decode cX2_stonesToEnclose 115 = .ok (.iconst 1, 1) := dk_4 (dk_at dksX2_stonesToEnclose_4 22 rfl rfl)
theorem dX2_stonesToEnclose_116 : decode cX2_stonesToEnclose 116 = .ok (.goto 4, 3) := dk_167 0 4 (dk_at dksX2_stonesToEnclose_5 0 rfl rfl)
theorem dX2_stonesToEnclose_119 : decode cX2_stonesToEnclose 119 = .ok (.iconst 2, 1) := dk_5 (dk_at dksX2_stonesToEnclose_5 3 rfl rfl)
theorem dX2_stonesToEnclose_120 : decode cX2_stonesToEnclose 120 = .ok (.istore 5, 2) := dk_54 5 (dk_at dksX2_stonesToEnclose_5 4 rfl rfl)
theorem dX2_stonesToEnclose_122 : decode cX2_stonesToEnclose 122 = .ok (.iinc 7 1, 3) := dk_132 7 1 (dk_at dksX2_stonesToEnclose_5 6 rfl rfl)
theorem dX2_stonesToEnclose_125 : decode cX2_stonesToEnclose 125 = .ok (.goto (-73), 3) := dk_167 255 183 (dk_at dksX2_stonesToEnclose_5 9 rfl rfl)
theorem dX2_stonesToEnclose_128 : decode cX2_stonesToEnclose 128 = .ok (.iinc 6 1, 3) := dk_132 6 1 (dk_at dksX2_stonesToEnclose_5 12 rfl rfl)
theorem dX2_stonesToEnclose_131 : decode cX2_stonesToEnclose 131 = .ok (.goto (-101), 3) := dk_167 255 155 (dk_at dksX2_stonesToEnclose_5 15 rfl rfl)
theorem dX2_stonesToEnclose_134 : decode cX2_stonesToEnclose 134 = .ok (.iload 5, 2) := dk_21 5 (dk_at dksX2_stonesToEnclose_5 18 rfl rfl)
theorem dX2_stonesToEnclose_136 : decode cX2_stonesToEnclose 136 = .ok (.ireturn, 1) := dk_172 (dk_at dksX2_stonesToEnclose_5 20 rfl rfl)
abbrev cX2_isEnclosed : ByteArray := prog_5_method_20_code
def yX2_isEnclosed : MethodName := ⟨RX2, "isEnclosed", "(IIJ)Z"⟩
def dkwX2_isEnclosed_2 : List UInt8 := [153, 0, 7, 4, 167, 0, 4, 3, 172]
abbrev dktX2_isEnclosed_2 : List UInt8 := dkwX2_isEnclosed_2 ++ []
def dkwX2_isEnclosed_1 : List UInt8 := [184, 0, 179, 153, 0, 27, 42, 180, 0, 34, 42, 180, 0, 34, 28, 22, 5, 182, 0, 209, 182, 0, 213]
abbrev dktX2_isEnclosed_1 : List UInt8 := dkwX2_isEnclosed_1 ++ dktX2_isEnclosed_2
def dkwX2_isEnclosed_0 : List UInt8 := [42, 182, 0, 81, 42, 180, 0, 34, 27, 182, 0, 203, 33, 20, 0, 207, 131, 127, 55, 5, 22, 5, 28]
abbrev dktX2_isEnclosed_0 : List UInt8 := dkwX2_isEnclosed_0 ++ dktX2_isEnclosed_1
theorem dksX2_isEnclosed_0 : cX2_isEnclosed.data.toList.drop 0 = dktX2_isEnclosed_0 := by decide +kernel
theorem dksX2_isEnclosed_1 : cX2_isEnclosed.data.toList.drop 23 = dktX2_isEnclosed_1 := dk_seg dksX2_isEnclosed_0 23 rfl rfl
theorem dksX2_isEnclosed_2 : cX2_isEnclosed.data.toList.drop 46 = dktX2_isEnclosed_2 := dk_seg dksX2_isEnclosed_1 23 rfl rfl
theorem dX2_isEnclosed_0 : decode cX2_isEnclosed 0 = .ok (.aload_n 0, 1) := dk_42 (dk_at dksX2_isEnclosed_0 0 rfl rfl)
theorem dX2_isEnclosed_1 : decode cX2_isEnclosed 1 = .ok (.invokevirtual 81, 3) := dk_182 0 81 (dk_at dksX2_isEnclosed_0 1 rfl rfl)
theorem dX2_isEnclosed_4 : decode cX2_isEnclosed 4 = .ok (.aload_n 0, 1) := dk_42 (dk_at dksX2_isEnclosed_0 4 rfl rfl)
theorem dX2_isEnclosed_5 : decode cX2_isEnclosed 5 = .ok (.getfield 34, 3) := dk_180 0 34 (dk_at dksX2_isEnclosed_0 5 rfl rfl)
theorem dX2_isEnclosed_8 : decode cX2_isEnclosed 8 = .ok (.iload_n 1, 1) := dk_27 (dk_at dksX2_isEnclosed_0 8 rfl rfl)
theorem dX2_isEnclosed_9 : decode cX2_isEnclosed 9 = .ok (.invokevirtual 203, 3) := dk_182 0 203 (dk_at dksX2_isEnclosed_0 9 rfl rfl)
theorem dX2_isEnclosed_12 : decode cX2_isEnclosed 12 = .ok (.lload_n 3, 1) := dk_33 (dk_at dksX2_isEnclosed_0 12 rfl rfl)
theorem dX2_isEnclosed_13 : decode cX2_isEnclosed 13 = .ok (.ldc2_w 207, 3) := dk_20 0 207 (dk_at dksX2_isEnclosed_0 13 rfl rfl)
theorem dX2_isEnclosed_16 : decode cX2_isEnclosed 16 = .ok (.lxor, 1) := dk_131 (dk_at dksX2_isEnclosed_0 16 rfl rfl)
theorem dX2_isEnclosed_17 : decode cX2_isEnclosed 17 = .ok (.land, 1) := dk_127 (dk_at dksX2_isEnclosed_0 17 rfl rfl)
theorem dX2_isEnclosed_18 : decode cX2_isEnclosed 18 = .ok (.lstore 5, 2) := dk_55 5 (dk_at dksX2_isEnclosed_0 18 rfl rfl)
theorem dX2_isEnclosed_20 : decode cX2_isEnclosed 20 = .ok (.lload 5, 2) := dk_22 5 (dk_at dksX2_isEnclosed_0 20 rfl rfl)
theorem dX2_isEnclosed_22 : decode cX2_isEnclosed 22 = .ok (.iload_n 2, 1) := dk_28 (dk_at dksX2_isEnclosed_0 22 rfl rfl)
theorem dX2_isEnclosed_23 : decode cX2_isEnclosed 23 = .ok (.invokestatic 179, 3) := dk_184 0 179 (dk_at dksX2_isEnclosed_1 0 rfl rfl)
theorem dX2_isEnclosed_26 : decode cX2_isEnclosed 26 = .ok (.ifCond .eq 27, 3) := dk_153 0 27 (dk_at dksX2_isEnclosed_1 3 rfl rfl)
theorem dX2_isEnclosed_29 : decode cX2_isEnclosed 29 = .ok (.aload_n 0, 1) := dk_42 (dk_at dksX2_isEnclosed_1 6 rfl rfl)
theorem dX2_isEnclosed_30 : decode cX2_isEnclosed 30 = .ok (.getfield 34, 3) := dk_180 0 34 (dk_at dksX2_isEnclosed_1 7 rfl rfl)
theorem dX2_isEnclosed_33 : decode cX2_isEnclosed 33 = .ok (.aload_n 0, 1) := dk_42 (dk_at dksX2_isEnclosed_1 10 rfl rfl)
theorem dX2_isEnclosed_34 : decode cX2_isEnclosed 34 = .ok (.getfield 34, 3) := dk_180 0 34 (dk_at dksX2_isEnclosed_1 11 rfl rfl)
theorem dX2_isEnclosed_37 : decode cX2_isEnclosed 37 = .ok (.iload_n 2, 1) := dk_28 (dk_at dksX2_isEnclosed_1 14 rfl rfl)
theorem dX2_isEnclosed_38 : decode cX2_isEnclosed 38 = .ok (.lload 5, 2) := dk_22 5 (dk_at dksX2_isEnclosed_1 15 rfl rfl)
theorem dX2_isEnclosed_40 : decode cX2_isEnclosed 40 = .ok (.invokevirtual 209, 3) := dk_182 0 209 (dk_at dksX2_isEnclosed_1 17 rfl rfl)
theorem dX2_isEnclosed_43 : decode cX2_isEnclosed 43 = .ok (.invokevirtual 213, 3) := dk_182 0 213 (dk_at dksX2_isEnclosed_1 20 rfl rfl)
theorem dX2_isEnclosed_46 : decode cX2_isEnclosed 46 = .ok (.ifCond .eq 7, 3) := dk_153 0 7 (dk_at dksX2_isEnclosed_2 0 rfl rfl)
theorem dX2_isEnclosed_49 : decode cX2_isEnclosed 49 = .ok (.iconst 1, 1) := dk_4 (dk_at dksX2_isEnclosed_2 3 rfl rfl)
theorem dX2_isEnclosed_50 : decode cX2_isEnclosed 50 = .ok (.goto 4, 3) := dk_167 0 4 (dk_at dksX2_isEnclosed_2 4 rfl rfl)
theorem dX2_isEnclosed_53 : decode cX2_isEnclosed 53 = .ok (.iconst 0, 1) := dk_3 (dk_at dksX2_isEnclosed_2 7 rfl rfl)
theorem dX2_isEnclosed_54 : decode cX2_isEnclosed 54 = .ok (.ireturn, 1) := dk_172 (dk_at dksX2_isEnclosed_2 8 rfl rfl)
abbrev cX2_guarantee : ByteArray := prog_5_method_18_code
def yX2_guarantee : MethodName := ⟨RX2, "guarantee", "(III)I"⟩
def dkwX2_guarantee_0 : List UInt8 := [42, 180, 0, 25, 3, 50, 42, 182, 0, 81, 182, 0, 157, 42, 3, 27, 28, 29, 182, 0, 172, 172]
abbrev dktX2_guarantee_0 : List UInt8 := dkwX2_guarantee_0 ++ []
theorem dksX2_guarantee_0 : cX2_guarantee.data.toList.drop 0 = dktX2_guarantee_0 := by decide +kernel
theorem dX2_guarantee_0 : decode cX2_guarantee 0 = .ok (.aload_n 0, 1) := dk_42 (dk_at dksX2_guarantee_0 0 rfl rfl)
theorem dX2_guarantee_1 : decode cX2_guarantee 1 = .ok (.getfield 25, 3) := dk_180 0 25 (dk_at dksX2_guarantee_0 1 rfl rfl)
theorem dX2_guarantee_4 : decode cX2_guarantee 4 = .ok (.iconst 0, 1) := dk_3 (dk_at dksX2_guarantee_0 4 rfl rfl)
theorem dX2_guarantee_5 : decode cX2_guarantee 5 = .ok (.aaload, 1) := dk_50 (dk_at dksX2_guarantee_0 5 rfl rfl)
theorem dX2_guarantee_6 : decode cX2_guarantee 6 = .ok (.aload_n 0, 1) := dk_42 (dk_at dksX2_guarantee_0 6 rfl rfl)
theorem dX2_guarantee_7 : decode cX2_guarantee 7 = .ok (.invokevirtual 81, 3) := dk_182 0 81 (dk_at dksX2_guarantee_0 7 rfl rfl)
theorem dX2_guarantee_10 : decode cX2_guarantee 10 = .ok (.invokevirtual 157, 3) := dk_182 0 157 (dk_at dksX2_guarantee_0 10 rfl rfl)
theorem dX2_guarantee_13 : decode cX2_guarantee 13 = .ok (.aload_n 0, 1) := dk_42 (dk_at dksX2_guarantee_0 13 rfl rfl)
theorem dX2_guarantee_14 : decode cX2_guarantee 14 = .ok (.iconst 0, 1) := dk_3 (dk_at dksX2_guarantee_0 14 rfl rfl)
theorem dX2_guarantee_15 : decode cX2_guarantee 15 = .ok (.iload_n 1, 1) := dk_27 (dk_at dksX2_guarantee_0 15 rfl rfl)
theorem dX2_guarantee_16 : decode cX2_guarantee 16 = .ok (.iload_n 2, 1) := dk_28 (dk_at dksX2_guarantee_0 16 rfl rfl)
theorem dX2_guarantee_17 : decode cX2_guarantee 17 = .ok (.iload_n 3, 1) := dk_29 (dk_at dksX2_guarantee_0 17 rfl rfl)
theorem dX2_guarantee_18 : decode cX2_guarantee 18 = .ok (.invokevirtual 172, 3) := dk_182 0 172 (dk_at dksX2_guarantee_0 18 rfl rfl)
theorem dX2_guarantee_21 : decode cX2_guarantee 21 = .ok (.ireturn, 1) := dk_172 (dk_at dksX2_guarantee_0 21 rfl rfl)
abbrev cX2_guarantee_2 : ByteArray := prog_5_method_17_code
def yX2_guarantee_2 : MethodName := ⟨RX2, "guarantee", "(IIII)I"⟩
def dkwX2_guarantee_2_4 : List UInt8 := [54, 5, 132, 6, 1, 167, 255, 191, 21, 5, 172]
abbrev dktX2_guarantee_2_4 : List UInt8 := dkwX2_guarantee_2_4 ++ []
def dkwX2_guarantee_2_3 : List UInt8 := [29, 21, 6, 182, 0, 189, 21, 5, 42, 27, 4, 96, 28, 21, 4, 4, 100, 3, 182, 0, 193, 184, 0, 197]
abbrev dktX2_guarantee_2_3 : List UInt8 := dkwX2_guarantee_2_3 ++ dktX2_guarantee_2_4
def dkwX2_guarantee_2_2 : List UInt8 := [42, 180, 0, 25, 27, 50, 42, 180, 0, 34, 182, 0, 77, 21, 6, 184, 0, 179, 153, 0, 32, 42, 27, 28]
abbrev dktX2_guarantee_2_2 : List UInt8 := dkwX2_guarantee_2_2 ++ dktX2_guarantee_2_3
def dkwX2_guarantee_2_1 : List UInt8 := [167, 0, 4, 3, 182, 0, 193, 54, 5, 3, 54, 6, 21, 6, 42, 180, 0, 34, 182, 0, 176, 162, 0, 59]
abbrev dktX2_guarantee_2_1 : List UInt8 := dkwX2_guarantee_2_1 ++ dktX2_guarantee_2_2
def dkwX2_guarantee_2_0 : List UInt8 := [42, 27, 28, 29, 2, 182, 0, 189, 42, 27, 4, 96, 28, 21, 4, 4, 100, 29, 2, 160, 0, 7, 4]
abbrev dktX2_guarantee_2_0 : List UInt8 := dkwX2_guarantee_2_0 ++ dktX2_guarantee_2_1
theorem dksX2_guarantee_2_0 : cX2_guarantee_2.data.toList.drop 0 = dktX2_guarantee_2_0 := by decide +kernel
theorem dksX2_guarantee_2_1 : cX2_guarantee_2.data.toList.drop 23 = dktX2_guarantee_2_1 := dk_seg dksX2_guarantee_2_0 23 rfl rfl
theorem dksX2_guarantee_2_2 : cX2_guarantee_2.data.toList.drop 47 = dktX2_guarantee_2_2 := dk_seg dksX2_guarantee_2_1 24 rfl rfl
theorem dksX2_guarantee_2_3 : cX2_guarantee_2.data.toList.drop 71 = dktX2_guarantee_2_3 := dk_seg dksX2_guarantee_2_2 24 rfl rfl
theorem dksX2_guarantee_2_4 : cX2_guarantee_2.data.toList.drop 95 = dktX2_guarantee_2_4 := dk_seg dksX2_guarantee_2_3 24 rfl rfl
theorem dX2_guarantee_2_0 : decode cX2_guarantee_2 0 = .ok (.aload_n 0, 1) := dk_42 (dk_at dksX2_guarantee_2_0 0 rfl rfl)
theorem dX2_guarantee_2_1 : decode cX2_guarantee_2 1 = .ok (.iload_n 1, 1) := dk_27 (dk_at dksX2_guarantee_2_0 1 rfl rfl)
theorem dX2_guarantee_2_2 : decode cX2_guarantee_2 2 = .ok (.iload_n 2, 1) := dk_28 (dk_at dksX2_guarantee_2_0 2 rfl rfl)
theorem dX2_guarantee_2_3 : decode cX2_guarantee_2 3 = .ok (.iload_n 3, 1) := dk_29 (dk_at dksX2_guarantee_2_0 3 rfl rfl)
theorem dX2_guarantee_2_4 : decode cX2_guarantee_2 4 = .ok (.iconst (-1), 1) := dk_2 (dk_at dksX2_guarantee_2_0 4 rfl rfl)
theorem dX2_guarantee_2_5 : decode cX2_guarantee_2 5 = .ok (.invokevirtual 189, 3) := dk_182 0 189 (dk_at dksX2_guarantee_2_0 5 rfl rfl)
theorem dX2_guarantee_2_8 : decode cX2_guarantee_2 8 = .ok (.aload_n 0, 1) := dk_42 (dk_at dksX2_guarantee_2_0 8 rfl rfl)
theorem dX2_guarantee_2_9 : decode cX2_guarantee_2 9 = .ok (.iload_n 1, 1) := dk_27 (dk_at dksX2_guarantee_2_0 9 rfl rfl)
theorem dX2_guarantee_2_10 : decode cX2_guarantee_2 10 = .ok (.iconst 1, 1) := dk_4 (dk_at dksX2_guarantee_2_0 10 rfl rfl)
theorem dX2_guarantee_2_11 : decode cX2_guarantee_2 11 = .ok (.iadd, 1) := dk_96 (dk_at dksX2_guarantee_2_0 11 rfl rfl)
theorem dX2_guarantee_2_12 : decode cX2_guarantee_2 12 = .ok (.iload_n 2, 1) := dk_28 (dk_at dksX2_guarantee_2_0 12 rfl rfl)
theorem dX2_guarantee_2_13 : decode cX2_guarantee_2 13 = .ok (.iload 4, 2) := dk_21 4 (dk_at dksX2_guarantee_2_0 13 rfl rfl)
theorem dX2_guarantee_2_15 : decode cX2_guarantee_2 15 = .ok (.iconst 1, 1) := dk_4 (dk_at dksX2_guarantee_2_0 15 rfl rfl)
theorem dX2_guarantee_2_16 : decode cX2_guarantee_2 16 = .ok (.isub, 1) := dk_100 (dk_at dksX2_guarantee_2_0 16 rfl rfl)
theorem dX2_guarantee_2_17 : decode cX2_guarantee_2 17 = .ok (.iload_n 3, 1) := dk_29 (dk_at dksX2_guarantee_2_0 17 rfl rfl)
theorem dX2_guarantee_2_18 : decode cX2_guarantee_2 18 = .ok (.iconst (-1), 1) := dk_2 (dk_at dksX2_guarantee_2_0 18 rfl rfl)
theorem dX2_guarantee_2_19 : decode cX2_guarantee_2 19 = .ok (.if_icmp .ne 7, 3) := dk_160 0 7 (dk_at dksX2_guarantee_2_0 19 rfl rfl)
theorem dX2_guarantee_2_22 : decode cX2_guarantee_2 22 = .ok (.iconst 1, 1) := dk_4 (dk_at dksX2_guarantee_2_0 22 rfl rfl)
theorem dX2_guarantee_2_23 : decode cX2_guarantee_2 23 = .ok (.goto 4, 3) := dk_167 0 4 (dk_at dksX2_guarantee_2_1 0 rfl rfl)
theorem dX2_guarantee_2_26 : decode cX2_guarantee_2 26 = .ok (.iconst 0, 1) := dk_3 (dk_at dksX2_guarantee_2_1 3 rfl rfl)
theorem dX2_guarantee_2_27 : decode cX2_guarantee_2 27 = .ok (.invokevirtual 193, 3) := dk_182 0 193 (dk_at dksX2_guarantee_2_1 4 rfl rfl)
theorem dX2_guarantee_2_30 : decode cX2_guarantee_2 30 = .ok (.istore 5, 2) := dk_54 5 (dk_at dksX2_guarantee_2_1 7 rfl rfl)
theorem dX2_guarantee_2_32 : decode cX2_guarantee_2 32 = .ok (.iconst 0, 1) := dk_3 (dk_at dksX2_guarantee_2_1 9 rfl rfl)
theorem dX2_guarantee_2_33 : decode cX2_guarantee_2 33 = .ok (.istore 6, 2) := dk_54 6 (dk_at dksX2_guarantee_2_1 10 rfl rfl)
theorem dX2_guarantee_2_35 : decode cX2_guarantee_2 35 = .ok (.iload 6, 2) := dk_21 6 (dk_at dksX2_guarantee_2_1 12 rfl rfl)
theorem dX2_guarantee_2_37 : decode cX2_guarantee_2 37 = .ok (.aload_n 0, 1) := dk_42 (dk_at dksX2_guarantee_2_1 14 rfl rfl)
theorem dX2_guarantee_2_38 : decode cX2_guarantee_2 38 = .ok (.getfield 34, 3) := dk_180 0 34 (dk_at dksX2_guarantee_2_1 15 rfl rfl)
theorem dX2_guarantee_2_41 : decode cX2_guarantee_2 41 = .ok (.invokevirtual 176, 3) := dk_182 0 176 (dk_at dksX2_guarantee_2_1 18 rfl rfl)
theorem dX2_guarantee_2_44 : decode cX2_guarantee_2 44 = .ok (.if_icmp .ge 59, 3) := dk_162 0 59 (dk_at dksX2_guarantee_2_1 21 rfl rfl)
theorem dX2_guarantee_2_47 : decode cX2_guarantee_2 47 = .ok (.aload_n 0, 1) := dk_42 (dk_at dksX2_guarantee_2_2 0 rfl rfl)
theorem dX2_guarantee_2_48 : decode cX2_guarantee_2 48 = .ok (.getfield 25, 3) := dk_180 0 25 (dk_at dksX2_guarantee_2_2 1 rfl rfl)
theorem dX2_guarantee_2_51 : decode cX2_guarantee_2 51 = .ok (.iload_n 1, 1) := dk_27 (dk_at dksX2_guarantee_2_2 4 rfl rfl)
theorem dX2_guarantee_2_52 : decode cX2_guarantee_2 52 = .ok (.aaload, 1) := dk_50 (dk_at dksX2_guarantee_2_2 5 rfl rfl)
theorem dX2_guarantee_2_53 : decode cX2_guarantee_2 53 = .ok (.aload_n 0, 1) := dk_42 (dk_at dksX2_guarantee_2_2 6 rfl rfl)
theorem dX2_guarantee_2_54 : decode cX2_guarantee_2 54 = .ok (.getfield 34, 3) := dk_180 0 34 (dk_at dksX2_guarantee_2_2 7 rfl rfl)
theorem dX2_guarantee_2_57 : decode cX2_guarantee_2 57 = .ok (.invokevirtual 77, 3) := dk_182 0 77 (dk_at dksX2_guarantee_2_2 10 rfl rfl)
theorem dX2_guarantee_2_60 : decode cX2_guarantee_2 60 = .ok (.iload 6, 2) := dk_21 6 (dk_at dksX2_guarantee_2_2 13 rfl rfl)
theorem dX2_guarantee_2_62 : decode cX2_guarantee_2 62 = .ok (.invokestatic 179, 3) := dk_184 0 179 (dk_at dksX2_guarantee_2_2 15 rfl rfl)
theorem dX2_guarantee_2_65 : decode cX2_guarantee_2 65 = .ok (.ifCond .eq 32, 3) := dk_153 0 32 (dk_at dksX2_guarantee_2_2 18 rfl rfl)
theorem dX2_guarantee_2_68 : decode cX2_guarantee_2 68 = .ok (.aload_n 0, 1) := dk_42 (dk_at dksX2_guarantee_2_2 21 rfl rfl)
theorem dX2_guarantee_2_69 : decode cX2_guarantee_2 69 = .ok (.iload_n 1, 1) := dk_27 (dk_at dksX2_guarantee_2_2 22 rfl rfl)
theorem dX2_guarantee_2_70 : decode cX2_guarantee_2 70 = .ok (.iload_n 2, 1) := dk_28 (dk_at dksX2_guarantee_2_2 23 rfl rfl)
theorem dX2_guarantee_2_71 : decode cX2_guarantee_2 71 = .ok (.iload_n 3, 1) := dk_29 (dk_at dksX2_guarantee_2_3 0 rfl rfl)
theorem dX2_guarantee_2_72 : decode cX2_guarantee_2 72 = .ok (.iload 6, 2) := dk_21 6 (dk_at dksX2_guarantee_2_3 1 rfl rfl)
theorem dX2_guarantee_2_74 : decode cX2_guarantee_2 74 = .ok (.invokevirtual 189, 3) := dk_182 0 189 (dk_at dksX2_guarantee_2_3 3 rfl rfl)
theorem dX2_guarantee_2_77 : decode cX2_guarantee_2 77 = .ok (.iload 5, 2) := dk_21 5 (dk_at dksX2_guarantee_2_3 6 rfl rfl)
theorem dX2_guarantee_2_79 : decode cX2_guarantee_2 79 = .ok (.aload_n 0, 1) := dk_42 (dk_at dksX2_guarantee_2_3 8 rfl rfl)
theorem dX2_guarantee_2_80 : decode cX2_guarantee_2 80 = .ok (.iload_n 1, 1) := dk_27 (dk_at dksX2_guarantee_2_3 9 rfl rfl)
theorem dX2_guarantee_2_81 : decode cX2_guarantee_2 81 = .ok (.iconst 1, 1) := dk_4 (dk_at dksX2_guarantee_2_3 10 rfl rfl)
theorem dX2_guarantee_2_82 : decode cX2_guarantee_2 82 = .ok (.iadd, 1) := dk_96 (dk_at dksX2_guarantee_2_3 11 rfl rfl)
theorem dX2_guarantee_2_83 : decode cX2_guarantee_2 83 = .ok (.iload_n 2, 1) := dk_28 (dk_at dksX2_guarantee_2_3 12 rfl rfl)
theorem dX2_guarantee_2_84 : decode cX2_guarantee_2 84 = .ok (.iload 4, 2) := dk_21 4 (dk_at dksX2_guarantee_2_3 13 rfl rfl)
theorem dX2_guarantee_2_86 : decode cX2_guarantee_2 86 = .ok (.iconst 1, 1) := dk_4 (dk_at dksX2_guarantee_2_3 15 rfl rfl)
theorem dX2_guarantee_2_87 : decode cX2_guarantee_2 87 = .ok (.isub, 1) := dk_100 (dk_at dksX2_guarantee_2_3 16 rfl rfl)
theorem dX2_guarantee_2_88 : decode cX2_guarantee_2 88 = .ok (.iconst 0, 1) := dk_3 (dk_at dksX2_guarantee_2_3 17 rfl rfl)
theorem dX2_guarantee_2_89 : decode cX2_guarantee_2 89 = .ok (.invokevirtual 193, 3) := dk_182 0 193 (dk_at dksX2_guarantee_2_3 18 rfl rfl)
theorem dX2_guarantee_2_92 : decode cX2_guarantee_2 92 = .ok (.invokestatic 197, 3) := dk_184 0 197 (dk_at dksX2_guarantee_2_3 21 rfl rfl)
theorem dX2_guarantee_2_95 : decode cX2_guarantee_2 95 = .ok (.istore 5, 2) := dk_54 5 (dk_at dksX2_guarantee_2_4 0 rfl rfl)
theorem dX2_guarantee_2_97 : decode cX2_guarantee_2 97 = .ok (.iinc 6 1, 3) := dk_132 6 1 (dk_at dksX2_guarantee_2_4 2 rfl rfl)
theorem dX2_guarantee_2_100 : decode cX2_guarantee_2 100 = .ok (.goto (-65), 3) := dk_167 255 191 (dk_at dksX2_guarantee_2_4 5 rfl rfl)
theorem dX2_guarantee_2_103 : decode cX2_guarantee_2 103 = .ok (.iload 5, 2) := dk_21 5 (dk_at dksX2_guarantee_2_4 8 rfl rfl)
theorem dX2_guarantee_2_105 : decode cX2_guarantee_2 105 = .ok (.ireturn, 1) := dk_172 (dk_at dksX2_guarantee_2_4 10 rfl rfl)
abbrev cX2_attempt : ByteArray := prog_5_method_14_code
def yX2_attempt : MethodName := ⟨RX2, "attempt", "(IIII)V"⟩
def dkwX2_attempt_4 : List UInt8 := [167, 255, 230, 177]
abbrev dktX2_attempt_4 : List UInt8 := dkwX2_attempt_4 ++ []
def dkwX2_attempt_3 : List UInt8 := [16, 8, 162, 0, 25, 21, 6, 158, 0, 20, 25, 5, 42, 180, 0, 34, 182, 0, 165, 54, 6, 132, 7, 1]
abbrev dktX2_attempt_3 : List UInt8 := dkwX2_attempt_3 ++ dktX2_attempt_4
def dkwX2_attempt_2 : List UInt8 := [27, 50, 182, 0, 143, 182, 0, 161, 25, 5, 42, 180, 0, 34, 182, 0, 165, 54, 6, 4, 54, 7, 21, 7]
abbrev dktX2_attempt_2 : List UInt8 := dkwX2_attempt_2 ++ dktX2_attempt_3
def dkwX2_attempt_1 : List UInt8 := [154, 0, 7, 29, 167, 0, 5, 21, 4, 28, 154, 0, 8, 21, 4, 167, 0, 4, 29, 42, 42, 180, 0, 25]
abbrev dktX2_attempt_1 : List UInt8 := dkwX2_attempt_1 ++ dktX2_attempt_2
def dkwX2_attempt_0 : List UInt8 := [42, 180, 0, 25, 27, 4, 96, 50, 58, 5, 25, 5, 42, 180, 0, 25, 27, 50, 182, 0, 157, 25, 5, 28]
abbrev dktX2_attempt_0 : List UInt8 := dkwX2_attempt_0 ++ dktX2_attempt_1
theorem dksX2_attempt_0 : cX2_attempt.data.toList.drop 0 = dktX2_attempt_0 := by decide +kernel
theorem dksX2_attempt_1 : cX2_attempt.data.toList.drop 24 = dktX2_attempt_1 := dk_seg dksX2_attempt_0 24 rfl rfl
theorem dksX2_attempt_2 : cX2_attempt.data.toList.drop 48 = dktX2_attempt_2 := dk_seg dksX2_attempt_1 24 rfl rfl
theorem dksX2_attempt_3 : cX2_attempt.data.toList.drop 72 = dktX2_attempt_3 := dk_seg dksX2_attempt_2 24 rfl rfl
theorem dksX2_attempt_4 : cX2_attempt.data.toList.drop 96 = dktX2_attempt_4 := dk_seg dksX2_attempt_3 24 rfl rfl
theorem dX2_attempt_0 : decode cX2_attempt 0 = .ok (.aload_n 0, 1) := dk_42 (dk_at dksX2_attempt_0 0 rfl rfl)
theorem dX2_attempt_1 : decode cX2_attempt 1 = .ok (.getfield 25, 3) := dk_180 0 25 (dk_at dksX2_attempt_0 1 rfl rfl)
theorem dX2_attempt_4 : decode cX2_attempt 4 = .ok (.iload_n 1, 1) := dk_27 (dk_at dksX2_attempt_0 4 rfl rfl)
theorem dX2_attempt_5 : decode cX2_attempt 5 = .ok (.iconst 1, 1) := dk_4 (dk_at dksX2_attempt_0 5 rfl rfl)
theorem dX2_attempt_6 : decode cX2_attempt 6 = .ok (.iadd, 1) := dk_96 (dk_at dksX2_attempt_0 6 rfl rfl)
theorem dX2_attempt_7 : decode cX2_attempt 7 = .ok (.aaload, 1) := dk_50 (dk_at dksX2_attempt_0 7 rfl rfl)
theorem dX2_attempt_8 : decode cX2_attempt 8 = .ok (.astore 5, 2) := dk_58 5 (dk_at dksX2_attempt_0 8 rfl rfl)
theorem dX2_attempt_10 : decode cX2_attempt 10 = .ok (.aload 5, 2) := dk_25 5 (dk_at dksX2_attempt_0 10 rfl rfl)
theorem dX2_attempt_12 : decode cX2_attempt 12 = .ok (.aload_n 0, 1) := dk_42 (dk_at dksX2_attempt_0 12 rfl rfl)
theorem dX2_attempt_13 : decode cX2_attempt 13 = .ok (.getfield 25, 3) := dk_180 0 25 (dk_at dksX2_attempt_0 13 rfl rfl)
theorem dX2_attempt_16 : decode cX2_attempt 16 = .ok (.iload_n 1, 1) := dk_27 (dk_at dksX2_attempt_0 16 rfl rfl)
theorem dX2_attempt_17 : decode cX2_attempt 17 = .ok (.aaload, 1) := dk_50 (dk_at dksX2_attempt_0 17 rfl rfl)
theorem dX2_attempt_18 : decode cX2_attempt 18 = .ok (.invokevirtual 157, 3) := dk_182 0 157 (dk_at dksX2_attempt_0 18 rfl rfl)
theorem dX2_attempt_21 : decode cX2_attempt 21 = .ok (.aload 5, 2) := dk_25 5 (dk_at dksX2_attempt_0 21 rfl rfl)
theorem dX2_attempt_23 : decode cX2_attempt 23 = .ok (.iload_n 2, 1) := dk_28 (dk_at dksX2_attempt_0 23 rfl rfl)
theorem dX2_attempt_24 : decode cX2_attempt 24 = .ok (.ifCond .ne 7, 3) := dk_154 0 7 (dk_at dksX2_attempt_1 0 rfl rfl)
theorem dX2_attempt_27 : decode cX2_attempt 27 = .ok (.iload_n 3, 1) := dk_29 (dk_at dksX2_attempt_1 3 rfl rfl)
theorem dX2_attempt_28 : decode cX2_attempt 28 = .ok (.goto 5, 3) := dk_167 0 5 (dk_at dksX2_attempt_1 4 rfl rfl)
theorem dX2_attempt_31 : decode cX2_attempt 31 = .ok (.iload 4, 2) := dk_21 4 (dk_at dksX2_attempt_1 7 rfl rfl)
theorem dX2_attempt_33 : decode cX2_attempt 33 = .ok (.iload_n 2, 1) := dk_28 (dk_at dksX2_attempt_1 9 rfl rfl)
theorem dX2_attempt_34 : decode cX2_attempt 34 = .ok (.ifCond .ne 8, 3) := dk_154 0 8 (dk_at dksX2_attempt_1 10 rfl rfl)
theorem dX2_attempt_37 : decode cX2_attempt 37 = .ok (.iload 4, 2) := dk_21 4 (dk_at dksX2_attempt_1 13 rfl rfl)
theorem dX2_attempt_39 : decode cX2_attempt 39 = .ok (.goto 4, 3) := dk_167 0 4 (dk_at dksX2_attempt_1 15 rfl rfl)
theorem dX2_attempt_42 : decode cX2_attempt 42 = .ok (.iload_n 3, 1) := dk_29 (dk_at dksX2_attempt_1 18 rfl rfl)
theorem dX2_attempt_43 : decode cX2_attempt 43 = .ok (.aload_n 0, 1) := dk_42 (dk_at dksX2_attempt_1 19 rfl rfl)
theorem dX2_attempt_44 : decode cX2_attempt 44 = .ok (.aload_n 0, 1) := dk_42 (dk_at dksX2_attempt_1 20 rfl rfl)
theorem dX2_attempt_45 : decode cX2_attempt 45 = .ok (.getfield 25, 3) := dk_180 0 25 (dk_at dksX2_attempt_1 21 rfl rfl)
theorem dX2_attempt_48 : decode cX2_attempt 48 = .ok (.iload_n 1, 1) := dk_27 (dk_at dksX2_attempt_2 0 rfl rfl)
theorem dX2_attempt_49 : decode cX2_attempt 49 = .ok (.aaload, 1) := dk_50 (dk_at dksX2_attempt_2 1 rfl rfl)
theorem dX2_attempt_50 : decode cX2_attempt 50 = .ok (.invokevirtual 143, 3) := dk_182 0 143 (dk_at dksX2_attempt_2 2 rfl rfl)
theorem dX2_attempt_53 : decode cX2_attempt 53 = .ok (.invokevirtual 161, 3) := dk_182 0 161 (dk_at dksX2_attempt_2 5 rfl rfl)
theorem dX2_attempt_56 : decode cX2_attempt 56 = .ok (.aload 5, 2) := dk_25 5 (dk_at dksX2_attempt_2 8 rfl rfl)
theorem dX2_attempt_58 : decode cX2_attempt 58 = .ok (.aload_n 0, 1) := dk_42 (dk_at dksX2_attempt_2 10 rfl rfl)
theorem dX2_attempt_59 : decode cX2_attempt 59 = .ok (.getfield 34, 3) := dk_180 0 34 (dk_at dksX2_attempt_2 11 rfl rfl)
theorem dX2_attempt_62 : decode cX2_attempt 62 = .ok (.invokevirtual 165, 3) := dk_182 0 165 (dk_at dksX2_attempt_2 14 rfl rfl)
theorem dX2_attempt_65 : decode cX2_attempt 65 = .ok (.istore 6, 2) := dk_54 6 (dk_at dksX2_attempt_2 17 rfl rfl)
theorem dX2_attempt_67 : decode cX2_attempt 67 = .ok (.iconst 1, 1) := dk_4 (dk_at dksX2_attempt_2 19 rfl rfl)
theorem dX2_attempt_68 : decode cX2_attempt 68 = .ok (.istore 7, 2) := dk_54 7 (dk_at dksX2_attempt_2 20 rfl rfl)
theorem dX2_attempt_70 : decode cX2_attempt 70 = .ok (.iload 7, 2) := dk_21 7 (dk_at dksX2_attempt_2 22 rfl rfl)
theorem dX2_attempt_72 : decode cX2_attempt 72 = .ok (.bipush 8, 2) := dk_16 8 (dk_at dksX2_attempt_3 0 rfl rfl)
theorem dX2_attempt_74 : decode cX2_attempt 74 = .ok (.if_icmp .ge 25, 3) := dk_162 0 25 (dk_at dksX2_attempt_3 2 rfl rfl)
theorem dX2_attempt_77 : decode cX2_attempt 77 = .ok (.iload 6, 2) := dk_21 6 (dk_at dksX2_attempt_3 5 rfl rfl)
theorem dX2_attempt_79 : decode cX2_attempt 79 = .ok (.ifCond .le 20, 3) := dk_158 0 20 (dk_at dksX2_attempt_3 7 rfl rfl)
theorem dX2_attempt_82 : decode cX2_attempt 82 = .ok (.aload 5, 2) := dk_25 5 (dk_at dksX2_attempt_3 10 rfl rfl)
theorem dX2_attempt_84 : decode cX2_attempt 84 = .ok (.aload_n 0, 1) := dk_42 (dk_at dksX2_attempt_3 12 rfl rfl)
theorem dX2_attempt_85 : decode cX2_attempt 85 = .ok (.getfield 34, 3) := dk_180 0 34 (dk_at dksX2_attempt_3 13 rfl rfl)
theorem dX2_attempt_88 : decode cX2_attempt 88 = .ok (.invokevirtual 165, 3) := dk_182 0 165 (dk_at dksX2_attempt_3 16 rfl rfl)
theorem dX2_attempt_91 : decode cX2_attempt 91 = .ok (.istore 6, 2) := dk_54 6 (dk_at dksX2_attempt_3 19 rfl rfl)
theorem dX2_attempt_93 : decode cX2_attempt 93 = .ok (.iinc 7 1, 3) := dk_132 7 1 (dk_at dksX2_attempt_3 21 rfl rfl)
theorem dX2_attempt_96 : decode cX2_attempt 96 = .ok (.goto (-26), 3) := dk_167 255 230 (dk_at dksX2_attempt_4 0 rfl rfl)
theorem dX2_attempt_99 : decode cX2_attempt 99 = .ok (.return_, 1) := dk_177 (dk_at dksX2_attempt_4 3 rfl rfl)
abbrev cX2_value : ByteArray := prog_5_method_16_code
def yX2_value : MethodName := ⟨RX2, "value", "(IIIZ)I"⟩
def dkwX2_value_4 : List UInt8 := [182, 0, 172, 184, 0, 183, 54, 5, 132, 6, 1, 167, 255, 204, 21, 5, 172]
abbrev dktX2_value_4 : List UInt8 := dkwX2_value_4 ++ []
def dkwX2_value_3 : List UInt8 := [180, 0, 34, 182, 0, 77, 21, 6, 184, 0, 179, 153, 0, 19, 21, 5, 42, 27, 28, 21, 6, 29]
abbrev dktX2_value_3 : List UInt8 := dkwX2_value_3 ++ dktX2_value_4
def dkwX2_value_2 : List UInt8 := [54, 5, 3, 54, 6, 21, 6, 42, 180, 0, 34, 182, 0, 176, 162, 0, 46, 42, 180, 0, 25, 27, 50, 42]
abbrev dktX2_value_2 : List UInt8 := dkwX2_value_2 ++ dktX2_value_3
def dkwX2_value_1 : List UInt8 := [153, 0, 15, 42, 42, 180, 0, 25, 27, 50, 28, 182, 0, 169, 172, 42, 27, 28, 2, 29, 182, 0, 172]
abbrev dktX2_value_1 : List UInt8 := dkwX2_value_1 ++ dktX2_value_2
def dkwX2_value_0 : List UInt8 := [29, 153, 0, 24, 42, 42, 180, 0, 25, 27, 50, 42, 182, 0, 84, 27, 96, 21, 4, 182, 0, 91]
abbrev dktX2_value_0 : List UInt8 := dkwX2_value_0 ++ dktX2_value_1
theorem dksX2_value_0 : cX2_value.data.toList.drop 0 = dktX2_value_0 := by decide +kernel
theorem dksX2_value_1 : cX2_value.data.toList.drop 22 = dktX2_value_1 := dk_seg dksX2_value_0 22 rfl rfl
theorem dksX2_value_2 : cX2_value.data.toList.drop 45 = dktX2_value_2 := dk_seg dksX2_value_1 23 rfl rfl
theorem dksX2_value_3 : cX2_value.data.toList.drop 69 = dktX2_value_3 := dk_seg dksX2_value_2 24 rfl rfl
theorem dksX2_value_4 : cX2_value.data.toList.drop 91 = dktX2_value_4 := dk_seg dksX2_value_3 22 rfl rfl
theorem dX2_value_0 : decode cX2_value 0 = .ok (.iload_n 3, 1) := dk_29 (dk_at dksX2_value_0 0 rfl rfl)
theorem dX2_value_1 : decode cX2_value 1 = .ok (.ifCond .eq 24, 3) := dk_153 0 24 (dk_at dksX2_value_0 1 rfl rfl)
theorem dX2_value_4 : decode cX2_value 4 = .ok (.aload_n 0, 1) := dk_42 (dk_at dksX2_value_0 4 rfl rfl)
theorem dX2_value_5 : decode cX2_value 5 = .ok (.aload_n 0, 1) := dk_42 (dk_at dksX2_value_0 5 rfl rfl)
theorem dX2_value_6 : decode cX2_value 6 = .ok (.getfield 25, 3) := dk_180 0 25 (dk_at dksX2_value_0 6 rfl rfl)
theorem dX2_value_9 : decode cX2_value 9 = .ok (.iload_n 1, 1) := dk_27 (dk_at dksX2_value_0 9 rfl rfl)
theorem dX2_value_10 : decode cX2_value 10 = .ok (.aaload, 1) := dk_50 (dk_at dksX2_value_0 10 rfl rfl)
theorem dX2_value_11 : decode cX2_value 11 = .ok (.aload_n 0, 1) := dk_42 (dk_at dksX2_value_0 11 rfl rfl)
theorem dX2_value_12 : decode cX2_value 12 = .ok (.invokevirtual 84, 3) := dk_182 0 84 (dk_at dksX2_value_0 12 rfl rfl)
theorem dX2_value_15 : decode cX2_value 15 = .ok (.iload_n 1, 1) := dk_27 (dk_at dksX2_value_0 15 rfl rfl)
theorem dX2_value_16 : decode cX2_value 16 = .ok (.iadd, 1) := dk_96 (dk_at dksX2_value_0 16 rfl rfl)
theorem dX2_value_17 : decode cX2_value 17 = .ok (.iload 4, 2) := dk_21 4 (dk_at dksX2_value_0 17 rfl rfl)
theorem dX2_value_19 : decode cX2_value 19 = .ok (.invokevirtual 91, 3) := dk_182 0 91 (dk_at dksX2_value_0 19 rfl rfl)
theorem dX2_value_22 : decode cX2_value 22 = .ok (.ifCond .eq 15, 3) := dk_153 0 15 (dk_at dksX2_value_1 0 rfl rfl)
theorem dX2_value_25 : decode cX2_value 25 = .ok (.aload_n 0, 1) := dk_42 (dk_at dksX2_value_1 3 rfl rfl)
theorem dX2_value_26 : decode cX2_value 26 = .ok (.aload_n 0, 1) := dk_42 (dk_at dksX2_value_1 4 rfl rfl)
theorem dX2_value_27 : decode cX2_value 27 = .ok (.getfield 25, 3) := dk_180 0 25 (dk_at dksX2_value_1 5 rfl rfl)
theorem dX2_value_30 : decode cX2_value 30 = .ok (.iload_n 1, 1) := dk_27 (dk_at dksX2_value_1 8 rfl rfl)
theorem dX2_value_31 : decode cX2_value 31 = .ok (.aaload, 1) := dk_50 (dk_at dksX2_value_1 9 rfl rfl)
theorem dX2_value_32 : decode cX2_value 32 = .ok (.iload_n 2, 1) := dk_28 (dk_at dksX2_value_1 10 rfl rfl)
theorem dX2_value_33 : decode cX2_value 33 = .ok (.invokevirtual 169, 3) := dk_182 0 169 (dk_at dksX2_value_1 11 rfl rfl)
theorem dX2_value_36 : decode cX2_value 36 = .ok (.ireturn, 1) := dk_172 (dk_at dksX2_value_1 14 rfl rfl)
theorem dX2_value_37 : decode cX2_value 37 = .ok (.aload_n 0, 1) := dk_42 (dk_at dksX2_value_1 15 rfl rfl)
theorem dX2_value_38 : decode cX2_value 38 = .ok (.iload_n 1, 1) := dk_27 (dk_at dksX2_value_1 16 rfl rfl)
theorem dX2_value_39 : decode cX2_value 39 = .ok (.iload_n 2, 1) := dk_28 (dk_at dksX2_value_1 17 rfl rfl)
theorem dX2_value_40 : decode cX2_value 40 = .ok (.iconst (-1), 1) := dk_2 (dk_at dksX2_value_1 18 rfl rfl)
theorem dX2_value_41 : decode cX2_value 41 = .ok (.iload_n 3, 1) := dk_29 (dk_at dksX2_value_1 19 rfl rfl)
theorem dX2_value_42 : decode cX2_value 42 = .ok (.invokevirtual 172, 3) := dk_182 0 172 (dk_at dksX2_value_1 20 rfl rfl)
theorem dX2_value_45 : decode cX2_value 45 = .ok (.istore 5, 2) := dk_54 5 (dk_at dksX2_value_2 0 rfl rfl)
theorem dX2_value_47 : decode cX2_value 47 = .ok (.iconst 0, 1) := dk_3 (dk_at dksX2_value_2 2 rfl rfl)
theorem dX2_value_48 : decode cX2_value 48 = .ok (.istore 6, 2) := dk_54 6 (dk_at dksX2_value_2 3 rfl rfl)
theorem dX2_value_50 : decode cX2_value 50 = .ok (.iload 6, 2) := dk_21 6 (dk_at dksX2_value_2 5 rfl rfl)
theorem dX2_value_52 : decode cX2_value 52 = .ok (.aload_n 0, 1) := dk_42 (dk_at dksX2_value_2 7 rfl rfl)
theorem dX2_value_53 : decode cX2_value 53 = .ok (.getfield 34, 3) := dk_180 0 34 (dk_at dksX2_value_2 8 rfl rfl)
theorem dX2_value_56 : decode cX2_value 56 = .ok (.invokevirtual 176, 3) := dk_182 0 176 (dk_at dksX2_value_2 11 rfl rfl)
theorem dX2_value_59 : decode cX2_value 59 = .ok (.if_icmp .ge 46, 3) := dk_162 0 46 (dk_at dksX2_value_2 14 rfl rfl)
theorem dX2_value_62 : decode cX2_value 62 = .ok (.aload_n 0, 1) := dk_42 (dk_at dksX2_value_2 17 rfl rfl)
theorem dX2_value_63 : decode cX2_value 63 = .ok (.getfield 25, 3) := dk_180 0 25 (dk_at dksX2_value_2 18 rfl rfl)
theorem dX2_value_66 : decode cX2_value 66 = .ok (.iload_n 1, 1) := dk_27 (dk_at dksX2_value_2 21 rfl rfl)
theorem dX2_value_67 : decode cX2_value 67 = .ok (.aaload, 1) := dk_50 (dk_at dksX2_value_2 22 rfl rfl)
theorem dX2_value_68 : decode cX2_value 68 = .ok (.aload_n 0, 1) := dk_42 (dk_at dksX2_value_2 23 rfl rfl)
theorem dX2_value_69 : decode cX2_value 69 = .ok (.getfield 34, 3) := dk_180 0 34 (dk_at dksX2_value_3 0 rfl rfl)
theorem dX2_value_72 : decode cX2_value 72 = .ok (.invokevirtual 77, 3) := dk_182 0 77 (dk_at dksX2_value_3 3 rfl rfl)
theorem dX2_value_75 : decode cX2_value 75 = .ok (.iload 6, 2) := dk_21 6 (dk_at dksX2_value_3 6 rfl rfl)
theorem dX2_value_77 : decode cX2_value 77 = .ok (.invokestatic 179, 3) := dk_184 0 179 (dk_at dksX2_value_3 8 rfl rfl)
theorem dX2_value_80 : decode cX2_value 80 = .ok (.ifCond .eq 19, 3) := dk_153 0 19 (dk_at dksX2_value_3 11 rfl rfl)
theorem dX2_value_83 : decode cX2_value 83 = .ok (.iload 5, 2) := dk_21 5 (dk_at dksX2_value_3 14 rfl rfl)
theorem dX2_value_85 : decode cX2_value 85 = .ok (.aload_n 0, 1) := dk_42 (dk_at dksX2_value_3 16 rfl rfl)
theorem dX2_value_86 : decode cX2_value 86 = .ok (.iload_n 1, 1) := dk_27 (dk_at dksX2_value_3 17 rfl rfl)
theorem dX2_value_87 : decode cX2_value 87 = .ok (.iload_n 2, 1) := dk_28 (dk_at dksX2_value_3 18 rfl rfl)
theorem dX2_value_88 : decode cX2_value 88 = .ok (.iload 6, 2) := dk_21 6 (dk_at dksX2_value_3 19 rfl rfl)
theorem dX2_value_90 : decode cX2_value 90 = .ok (.iload_n 3, 1) := dk_29 (dk_at dksX2_value_3 21 rfl rfl)
theorem dX2_value_91 : decode cX2_value 91 = .ok (.invokevirtual 172, 3) := dk_182 0 172 (dk_at dksX2_value_4 0 rfl rfl)
theorem dX2_value_94 : decode cX2_value 94 = .ok (.invokestatic 183, 3) := dk_184 0 183 (dk_at dksX2_value_4 3 rfl rfl)
theorem dX2_value_97 : decode cX2_value 97 = .ok (.istore 5, 2) := dk_54 5 (dk_at dksX2_value_4 6 rfl rfl)
theorem dX2_value_99 : decode cX2_value 99 = .ok (.iinc 6 1, 3) := dk_132 6 1 (dk_at dksX2_value_4 8 rfl rfl)
theorem dX2_value_102 : decode cX2_value 102 = .ok (.goto (-52), 3) := dk_167 255 204 (dk_at dksX2_value_4 11 rfl rfl)
theorem dX2_value_105 : decode cX2_value 105 = .ok (.iload 5, 2) := dk_21 5 (dk_at dksX2_value_4 14 rfl rfl)
theorem dX2_value_107 : decode cX2_value 107 = .ok (.ireturn, 1) := dk_172 (dk_at dksX2_value_4 16 rfl rfl)
abbrev cX2_outcome : ByteArray := prog_5_method_15_code
def yX2_outcome : MethodName := ⟨RX2, "outcome", "(LEnclosureReferee$Board;I)I"⟩
def dkwX2_outcome_0 : List UInt8 := [42, 43, 28, 182, 0, 95, 42, 43, 4, 28, 100, 182, 0, 95, 100, 172]
abbrev dktX2_outcome_0 : List UInt8 := dkwX2_outcome_0 ++ []
theorem dksX2_outcome_0 : cX2_outcome.data.toList.drop 0 = dktX2_outcome_0 := by decide +kernel
theorem dX2_outcome_0 : decode cX2_outcome 0 = .ok (.aload_n 0, 1) := dk_42 (dk_at dksX2_outcome_0 0 rfl rfl)
theorem dX2_outcome_1 : decode cX2_outcome 1 = .ok (.aload_n 1, 1) := dk_43 (dk_at dksX2_outcome_0 1 rfl rfl)
theorem dX2_outcome_2 : decode cX2_outcome 2 = .ok (.iload_n 2, 1) := dk_28 (dk_at dksX2_outcome_0 2 rfl rfl)
theorem dX2_outcome_3 : decode cX2_outcome 3 = .ok (.invokevirtual 95, 3) := dk_182 0 95 (dk_at dksX2_outcome_0 3 rfl rfl)
theorem dX2_outcome_6 : decode cX2_outcome 6 = .ok (.aload_n 0, 1) := dk_42 (dk_at dksX2_outcome_0 6 rfl rfl)
theorem dX2_outcome_7 : decode cX2_outcome 7 = .ok (.aload_n 1, 1) := dk_43 (dk_at dksX2_outcome_0 7 rfl rfl)
theorem dX2_outcome_8 : decode cX2_outcome 8 = .ok (.iconst 1, 1) := dk_4 (dk_at dksX2_outcome_0 8 rfl rfl)
theorem dX2_outcome_9 : decode cX2_outcome 9 = .ok (.iload_n 2, 1) := dk_28 (dk_at dksX2_outcome_0 9 rfl rfl)
theorem dX2_outcome_10 : decode cX2_outcome 10 = .ok (.isub, 1) := dk_100 (dk_at dksX2_outcome_0 10 rfl rfl)
theorem dX2_outcome_11 : decode cX2_outcome 11 = .ok (.invokevirtual 95, 3) := dk_182 0 95 (dk_at dksX2_outcome_0 11 rfl rfl)
theorem dX2_outcome_14 : decode cX2_outcome 14 = .ok (.isub, 1) := dk_100 (dk_at dksX2_outcome_0 14 rfl rfl)
theorem dX2_outcome_15 : decode cX2_outcome 15 = .ok (.ireturn, 1) := dk_172 (dk_at dksX2_outcome_0 15 rfl rfl)
abbrev cX2_best : ByteArray := prog_5_method_19_code
def yX2_best : MethodName := ⟨RX2, "best", "(II)I"⟩
def dkwX2_best_3 : List UInt8 := [132, 5, 255, 167, 255, 205, 29, 172]
abbrev dktX2_best_3 : List UInt8 := dkwX2_best_3 ++ []
def dkwX2_best_2 : List UInt8 := [21, 5, 28, 182, 0, 200, 54, 6, 21, 6, 21, 4, 161, 0, 10, 21, 5, 62, 21, 6, 54, 4]
abbrev dktX2_best_2 : List UInt8 := dkwX2_best_2 ++ dktX2_best_3
def dkwX2_best_1 : List UInt8 := [155, 0, 52, 42, 182, 0, 81, 42, 180, 0, 34, 182, 0, 77, 21, 5, 184, 0, 179, 153, 0, 27, 42, 27]
abbrev dktX2_best_1 : List UInt8 := dkwX2_best_1 ++ dktX2_best_2
def dkwX2_best_0 : List UInt8 := [2, 62, 42, 27, 2, 28, 182, 0, 200, 54, 4, 42, 180, 0, 34, 182, 0, 176, 4, 100, 54, 5, 21, 5]
abbrev dktX2_best_0 : List UInt8 := dkwX2_best_0 ++ dktX2_best_1
theorem dksX2_best_0 : cX2_best.data.toList.drop 0 = dktX2_best_0 := by decide +kernel
theorem dksX2_best_1 : cX2_best.data.toList.drop 24 = dktX2_best_1 := dk_seg dksX2_best_0 24 rfl rfl
theorem dksX2_best_2 : cX2_best.data.toList.drop 48 = dktX2_best_2 := dk_seg dksX2_best_1 24 rfl rfl
theorem dksX2_best_3 : cX2_best.data.toList.drop 70 = dktX2_best_3 := dk_seg dksX2_best_2 22 rfl rfl
theorem dX2_best_0 : decode cX2_best 0 = .ok (.iconst (-1), 1) := dk_2 (dk_at dksX2_best_0 0 rfl rfl)
theorem dX2_best_1 : decode cX2_best 1 = .ok (.istore_n 3, 1) := dk_62 (dk_at dksX2_best_0 1 rfl rfl)
theorem dX2_best_2 : decode cX2_best 2 = .ok (.aload_n 0, 1) := dk_42 (dk_at dksX2_best_0 2 rfl rfl)
theorem dX2_best_3 : decode cX2_best 3 = .ok (.iload_n 1, 1) := dk_27 (dk_at dksX2_best_0 3 rfl rfl)
theorem dX2_best_4 : decode cX2_best 4 = .ok (.iconst (-1), 1) := dk_2 (dk_at dksX2_best_0 4 rfl rfl)
theorem dX2_best_5 : decode cX2_best 5 = .ok (.iload_n 2, 1) := dk_28 (dk_at dksX2_best_0 5 rfl rfl)
theorem dX2_best_6 : decode cX2_best 6 = .ok (.invokevirtual 200, 3) := dk_182 0 200 (dk_at dksX2_best_0 6 rfl rfl)
theorem dX2_best_9 : decode cX2_best 9 = .ok (.istore 4, 2) := dk_54 4 (dk_at dksX2_best_0 9 rfl rfl)
theorem dX2_best_11 : decode cX2_best 11 = .ok (.aload_n 0, 1) := dk_42 (dk_at dksX2_best_0 11 rfl rfl)
theorem dX2_best_12 : decode cX2_best 12 = .ok (.getfield 34, 3) := dk_180 0 34 (dk_at dksX2_best_0 12 rfl rfl)
theorem dX2_best_15 : decode cX2_best 15 = .ok (.invokevirtual 176, 3) := dk_182 0 176 (dk_at dksX2_best_0 15 rfl rfl)
theorem dX2_best_18 : decode cX2_best 18 = .ok (.iconst 1, 1) := dk_4 (dk_at dksX2_best_0 18 rfl rfl)
theorem dX2_best_19 : decode cX2_best 19 = .ok (.isub, 1) := dk_100 (dk_at dksX2_best_0 19 rfl rfl)
theorem dX2_best_20 : decode cX2_best 20 = .ok (.istore 5, 2) := dk_54 5 (dk_at dksX2_best_0 20 rfl rfl)
theorem dX2_best_22 : decode cX2_best 22 = .ok (.iload 5, 2) := dk_21 5 (dk_at dksX2_best_0 22 rfl rfl)
theorem dX2_best_24 : decode cX2_best 24 = .ok (.ifCond .lt 52, 3) := dk_155 0 52 (dk_at dksX2_best_1 0 rfl rfl)
theorem dX2_best_27 : decode cX2_best 27 = .ok (.aload_n 0, 1) := dk_42 (dk_at dksX2_best_1 3 rfl rfl)
theorem dX2_best_28 : decode cX2_best 28 = .ok (.invokevirtual 81, 3) := dk_182 0 81 (dk_at dksX2_best_1 4 rfl rfl)
theorem dX2_best_31 : decode cX2_best 31 = .ok (.aload_n 0, 1) := dk_42 (dk_at dksX2_best_1 7 rfl rfl)
theorem dX2_best_32 : decode cX2_best 32 = .ok (.getfield 34, 3) := dk_180 0 34 (dk_at dksX2_best_1 8 rfl rfl)
theorem dX2_best_35 : decode cX2_best 35 = .ok (.invokevirtual 77, 3) := dk_182 0 77 (dk_at dksX2_best_1 11 rfl rfl)
theorem dX2_best_38 : decode cX2_best 38 = .ok (.iload 5, 2) := dk_21 5 (dk_at dksX2_best_1 14 rfl rfl)
theorem dX2_best_40 : decode cX2_best 40 = .ok (.invokestatic 179, 3) := dk_184 0 179 (dk_at dksX2_best_1 16 rfl rfl)
theorem dX2_best_43 : decode cX2_best 43 = .ok (.ifCond .eq 27, 3) := dk_153 0 27 (dk_at dksX2_best_1 19 rfl rfl)
theorem dX2_best_46 : decode cX2_best 46 = .ok (.aload_n 0, 1) := dk_42 (dk_at dksX2_best_1 22 rfl rfl)
theorem dX2_best_47 : decode cX2_best 47 = .ok (.iload_n 1, 1) := dk_27 (dk_at dksX2_best_1 23 rfl rfl)
theorem dX2_best_48 : decode cX2_best 48 = .ok (.iload 5, 2) := dk_21 5 (dk_at dksX2_best_2 0 rfl rfl)
theorem dX2_best_50 : decode cX2_best 50 = .ok (.iload_n 2, 1) := dk_28 (dk_at dksX2_best_2 2 rfl rfl)
theorem dX2_best_51 : decode cX2_best 51 = .ok (.invokevirtual 200, 3) := dk_182 0 200 (dk_at dksX2_best_2 3 rfl rfl)
theorem dX2_best_54 : decode cX2_best 54 = .ok (.istore 6, 2) := dk_54 6 (dk_at dksX2_best_2 6 rfl rfl)
theorem dX2_best_56 : decode cX2_best 56 = .ok (.iload 6, 2) := dk_21 6 (dk_at dksX2_best_2 8 rfl rfl)
theorem dX2_best_58 : decode cX2_best 58 = .ok (.iload 4, 2) := dk_21 4 (dk_at dksX2_best_2 10 rfl rfl)
theorem dX2_best_60 : decode cX2_best 60 = .ok (.if_icmp .lt 10, 3) := dk_161 0 10 (dk_at dksX2_best_2 12 rfl rfl)
theorem dX2_best_63 : decode cX2_best 63 = .ok (.iload 5, 2) := dk_21 5 (dk_at dksX2_best_2 15 rfl rfl)
theorem dX2_best_65 : decode cX2_best 65 = .ok (.istore_n 3, 1) := dk_62 (dk_at dksX2_best_2 17 rfl rfl)
theorem dX2_best_66 : decode cX2_best 66 = .ok (.iload 6, 2) := dk_21 6 (dk_at dksX2_best_2 18 rfl rfl)
theorem dX2_best_68 : decode cX2_best 68 = .ok (.istore 4, 2) := dk_54 4 (dk_at dksX2_best_2 20 rfl rfl)
theorem dX2_best_70 : decode cX2_best 70 = .ok (.iinc 5 (-1), 3) := dk_132 5 255 (dk_at dksX2_best_3 0 rfl rfl)
theorem dX2_best_73 : decode cX2_best 73 = .ok (.goto (-51), 3) := dk_167 255 205 (dk_at dksX2_best_3 3 rfl rfl)
theorem dX2_best_76 : decode cX2_best 76 = .ok (.iload_n 3, 1) := dk_29 (dk_at dksX2_best_3 6 rfl rfl)
theorem dX2_best_77 : decode cX2_best 77 = .ok (.ireturn, 1) := dk_172 (dk_at dksX2_best_3 7 rfl rfl)
theorem q68 : (Jvm.Cond.initialized "EnclosureReferee$Game") ∈ lw_all := lw_g (lw_at lw_m1 2 rfl) rfl
theorem q116 : (Jvm.Cond.instantiable "EnclosureReferee$Game" (5 : Nat)) ∈ lw_all := lw_g (lw_at lw_m1 50 rfl) rfl
theorem q118 : (Jvm.Cond.instanceMethod ({ cls := "EnclosureReferee$Game", name := "<init>", desc := "(III)V" } : Jvm.MethodName)) ∈ lw_all := lw_g (lw_at lw_m1 52 rfl) rfl
theorem q119 : (Jvm.Cond.code ({ cls := "EnclosureReferee$Game", name := "<init>", desc := "(III)V" } : Jvm.MethodName) prog_5_method_1_code (5 : Nat) (Option.none : Option Jvm.ClassFile.FieldType)) ∈ lw_all := lw_g (lw_at lw_m1 53 rfl) rfl
theorem q120 : (Jvm.Cond.methodLink "EnclosureReferee$Game" (3 : Nat) ({ cls := "java/lang/Object", name := "<init>", desc := "()V" } : Jvm.MethodName)) ∈ lw_all := lw_g (lw_at lw_m1 54 rfl) rfl
theorem q121 : (Jvm.Cond.classLink "EnclosureReferee$Game" (9 : Nat) "java/util/ArrayList") ∈ lw_all := lw_g (lw_at lw_m1 55 rfl) rfl
theorem q123 : (Jvm.Cond.methodLink "EnclosureReferee$Game" (11 : Nat) ({ cls := "java/util/ArrayList", name := "<init>", desc := "()V" } : Jvm.MethodName)) ∈ lw_all := lw_g (lw_at lw_m1 57 rfl) rfl
theorem q147 : (Jvm.Cond.classLink "EnclosureReferee$Game" (22 : Nat) "EnclosureReferee$Board") ∈ lw_all := lw_g (lw_at lw_m1 81 rfl) rfl
theorem q150 : (Jvm.Cond.methodLinkNest "EnclosureReferee$Game" (24 : Nat) ({ cls := "EnclosureReferee$Board", name := "<init>", desc := "()V" } : Jvm.MethodName) "EnclosureReferee") ∈ lw_tbl := lw_at lw_m1 84 rfl
theorem q178 : (Jvm.Cond.classLink "EnclosureReferee$Game" (29 : Nat) "EnclosureReferee$Shape") ∈ lw_all := lw_g (lw_at lw_m1 112 rfl) rfl
theorem q180 : (Jvm.Cond.methodLink "EnclosureReferee$Game" (31 : Nat) ({ cls := "EnclosureReferee$Shape", name := "<init>", desc := "(II)V" } : Jvm.MethodName)) ∈ lw_all := lw_g (lw_at lw_m1 114 rfl) rfl
theorem q211 : (Jvm.Cond.classLink "EnclosureReferee$Game" (38 : Nat) "EnclosureReferee$Round") ∈ lw_all := lw_g (lw_at lw_m1 145 rfl) rfl
theorem q213 : (Jvm.Cond.methodLink "EnclosureReferee$Game" (40 : Nat) ({ cls := "EnclosureReferee$Round", name := "<init>", desc := "(LEnclosureReferee$Shape;I)V" } : Jvm.MethodName)) ∈ lw_all := lw_g (lw_at lw_m1 147 rfl) rfl
theorem q228 : (Jvm.Cond.fieldLinkNest "EnclosureReferee$Game" (69 : Nat) "EnclosureReferee$Round" "board" "LEnclosureReferee$Board;" "EnclosureReferee") ∈ lw_tbl := lw_at lw_m1 162 rfl
theorem q230 : (Jvm.Cond.fieldLinkNest "EnclosureReferee$Game" (119 : Nat) "EnclosureReferee$Round" "waves" "[I" "EnclosureReferee") ∈ lw_tbl := lw_at lw_m1 164 rfl
theorem q233 : (Jvm.Cond.fieldLinkNest "EnclosureReferee$Game" (151 : Nat) "EnclosureReferee$Round" "scores" "[I" "EnclosureReferee") ∈ lw_tbl := lw_at lw_m1 167 rfl
theorem q236 : (Jvm.Cond.fieldLinkNest "EnclosureReferee$Game" (103 : Nat) "EnclosureReferee$Round" "rounds" "[I" "EnclosureReferee") ∈ lw_tbl := lw_at lw_m1 170 rfl
theorem q239 : (Jvm.Cond.fieldLinkNest "EnclosureReferee$Game" (105 : Nat) "EnclosureReferee$Round" "wavesOfCells" "[I" "EnclosureReferee") ∈ lw_tbl := lw_at lw_m1 173 rfl
theorem q258 : (Jvm.Cond.methodLink "EnclosureReferee$Game" (43 : Nat) ({ cls := "java/util/ArrayList", name := "add", desc := "(Ljava/lang/Object;)Z" } : Jvm.MethodName)) ∈ lw_all := lw_g (lw_at lw_m1 192 rfl) rfl
theorem q294 : (Jvm.Cond.selects "EnclosureReferee$Game" ({ cls := "java/lang/Object", name := "getClass", desc := "()Ljava/lang/Class;" } : Jvm.MethodName) ({ cls := "java/lang/Object", name := "getClass", desc := "()Ljava/lang/Class;" } : Jvm.MethodName)) ∈ lw_all := lw_g (lw_at lw_m1 228 rfl) rfl
theorem q327 : (Jvm.Cond.fieldLink "EnclosureReferee$Game" (34 : Nat) "EnclosureReferee$Game" "shape" "LEnclosureReferee$Shape;") ∈ lw_all := lw_g (lw_at lw_m2 21 rfl) rfl
theorem q330 : (Jvm.Cond.fieldLink "EnclosureReferee$Game" (12 : Nat) "EnclosureReferee$Game" "positions" "Ljava/util/ArrayList;") ∈ lw_all := lw_g (lw_at lw_m2 24 rfl) rfl
theorem q332 : (Jvm.Cond.fieldLink "EnclosureReferee$Game" (47 : Nat) "EnclosureReferee$Game" "rule" "I") ∈ lw_all := lw_g (lw_at lw_m2 26 rfl) rfl
theorem q334 : (Jvm.Cond.fieldLink "EnclosureReferee$Game" (18 : Nat) "EnclosureReferee$Game" "bonuses" "[I") ∈ lw_all := lw_g (lw_at lw_m2 28 rfl) rfl
theorem q336 : (Jvm.Cond.fieldLink "EnclosureReferee$Game" (25 : Nat) "EnclosureReferee$Game" "tried" "[LEnclosureReferee$Board;") ∈ lw_all := lw_g (lw_at lw_m2 30 rfl) rfl
theorem q337 : (Jvm.Cond.laysFinal "EnclosureReferee$Game" "EnclosureReferee$Game" "shape" "LEnclosureReferee$Shape;") ∈ lw_all := lw_g (lw_at lw_m2 31 rfl) rfl
theorem q338 : (Jvm.Cond.soleField "EnclosureReferee$Game" "shape") ∈ lw_all := lw_g (lw_at lw_m2 32 rfl) rfl
theorem q339 : (Jvm.Cond.laysFinal "EnclosureReferee$Game" "EnclosureReferee$Game" "positions" "Ljava/util/ArrayList;") ∈ lw_all := lw_g (lw_at lw_m2 33 rfl) rfl
theorem q340 : (Jvm.Cond.soleField "EnclosureReferee$Game" "positions") ∈ lw_all := lw_g (lw_at lw_m2 34 rfl) rfl
theorem q341 : (Jvm.Cond.lays "EnclosureReferee$Game" "EnclosureReferee$Game" "rule" "I") ∈ lw_all := lw_g (lw_at lw_m2 35 rfl) rfl
theorem q342 : (Jvm.Cond.soleField "EnclosureReferee$Game" "rule") ∈ lw_all := lw_g (lw_at lw_m2 36 rfl) rfl
theorem q343 : (Jvm.Cond.laysFinal "EnclosureReferee$Game" "EnclosureReferee$Game" "bonuses" "[I") ∈ lw_all := lw_g (lw_at lw_m2 37 rfl) rfl
theorem q344 : (Jvm.Cond.soleField "EnclosureReferee$Game" "bonuses") ∈ lw_all := lw_g (lw_at lw_m2 38 rfl) rfl
theorem q345 : (Jvm.Cond.laysFinal "EnclosureReferee$Game" "EnclosureReferee$Game" "tried" "[LEnclosureReferee$Board;") ∈ lw_all := lw_g (lw_at lw_m2 39 rfl) rfl
theorem q346 : (Jvm.Cond.soleField "EnclosureReferee$Game" "tried") ∈ lw_all := lw_g (lw_at lw_m2 40 rfl) rfl
theorem q347 : (Jvm.Cond.superclass "EnclosureReferee$Game" "java/lang/Object") ∈ lw_all := lw_g (lw_at lw_m2 41 rfl) rfl
theorem q381 : (Jvm.Cond.instanceMethod ({ cls := "EnclosureReferee$Game", name := "isOver", desc := "()Z" } : Jvm.MethodName)) ∈ lw_all := lw_g (lw_at lw_m2 75 rfl) rfl
theorem q382 : (Jvm.Cond.selects "EnclosureReferee$Game" ({ cls := "EnclosureReferee$Game", name := "isOver", desc := "()Z" } : Jvm.MethodName) ({ cls := "EnclosureReferee$Game", name := "isOver", desc := "()Z" } : Jvm.MethodName)) ∈ lw_all := lw_g (lw_at lw_m2 76 rfl) rfl
theorem q383 : (Jvm.Cond.code ({ cls := "EnclosureReferee$Game", name := "isOver", desc := "()Z" } : Jvm.MethodName) prog_5_method_9_code (1 : Nat) (Option.some Jvm.ClassFile.FieldType.boolean)) ∈ lw_all := lw_g (lw_at lw_m2 77 rfl) rfl
theorem q384 : (Jvm.Cond.methodLink "EnclosureReferee$Game" (81 : Nat) ({ cls := "EnclosureReferee$Game", name := "board", desc := "()LEnclosureReferee$Board;" } : Jvm.MethodName)) ∈ lw_all := lw_g (lw_at lw_m2 78 rfl) rfl
theorem q385 : (Jvm.Cond.instanceMethod ({ cls := "EnclosureReferee$Game", name := "board", desc := "()LEnclosureReferee$Board;" } : Jvm.MethodName)) ∈ lw_all := lw_g (lw_at lw_m2 79 rfl) rfl
theorem q386 : (Jvm.Cond.selects "EnclosureReferee$Game" ({ cls := "EnclosureReferee$Game", name := "board", desc := "()LEnclosureReferee$Board;" } : Jvm.MethodName) ({ cls := "EnclosureReferee$Game", name := "board", desc := "()LEnclosureReferee$Board;" } : Jvm.MethodName)) ∈ lw_all := lw_g (lw_at lw_m2 80 rfl) rfl
theorem q387 : (Jvm.Cond.code ({ cls := "EnclosureReferee$Game", name := "board", desc := "()LEnclosureReferee$Board;" } : Jvm.MethodName) prog_5_method_6_code (1 : Nat) (Option.some (Jvm.ClassFile.FieldType.object "EnclosureReferee$Board"))) ∈ lw_all := lw_g (lw_at lw_m2 81 rfl) rfl
theorem q388 : (Jvm.Cond.methodLink "EnclosureReferee$Game" (65 : Nat) ({ cls := "EnclosureReferee$Game", name := "last", desc := "()LEnclosureReferee$Round;" } : Jvm.MethodName)) ∈ lw_all := lw_g (lw_at lw_m2 82 rfl) rfl
theorem q389 : (Jvm.Cond.instanceMethod ({ cls := "EnclosureReferee$Game", name := "last", desc := "()LEnclosureReferee$Round;" } : Jvm.MethodName)) ∈ lw_all := lw_g (lw_at lw_m2 83 rfl) rfl
theorem q390 : (Jvm.Cond.selects "EnclosureReferee$Game" ({ cls := "EnclosureReferee$Game", name := "last", desc := "()LEnclosureReferee$Round;" } : Jvm.MethodName) ({ cls := "EnclosureReferee$Game", name := "last", desc := "()LEnclosureReferee$Round;" } : Jvm.MethodName)) ∈ lw_all := lw_g (lw_at lw_m2 84 rfl) rfl
theorem q391 : (Jvm.Cond.code ({ cls := "EnclosureReferee$Game", name := "last", desc := "()LEnclosureReferee$Round;" } : Jvm.MethodName) prog_5_method_5_code (1 : Nat) (Option.some (Jvm.ClassFile.FieldType.object "EnclosureReferee$Round"))) ∈ lw_all := lw_g (lw_at lw_m2 85 rfl) rfl
theorem q392 : (Jvm.Cond.methodLink "EnclosureReferee$Game" (57 : Nat) ({ cls := "java/util/ArrayList", name := "size", desc := "()I" } : Jvm.MethodName)) ∈ lw_all := lw_g (lw_at lw_m2 86 rfl) rfl
theorem q396 : (Jvm.Cond.methodLink "EnclosureReferee$Game" (61 : Nat) ({ cls := "java/util/ArrayList", name := "get", desc := "(I)Ljava/lang/Object;" } : Jvm.MethodName)) ∈ lw_all := lw_g (lw_at lw_m2 90 rfl) rfl
theorem q410 : (Jvm.Cond.methodLink "EnclosureReferee$Game" (84 : Nat) ({ cls := "EnclosureReferee$Game", name := "rounds", desc := "()I" } : Jvm.MethodName)) ∈ lw_all := lw_g (lw_at lw_m2 104 rfl) rfl
theorem q411 : (Jvm.Cond.instanceMethod ({ cls := "EnclosureReferee$Game", name := "rounds", desc := "()I" } : Jvm.MethodName)) ∈ lw_all := lw_g (lw_at lw_m2 105 rfl) rfl
theorem q412 : (Jvm.Cond.selects "EnclosureReferee$Game" ({ cls := "EnclosureReferee$Game", name := "rounds", desc := "()I" } : Jvm.MethodName) ({ cls := "EnclosureReferee$Game", name := "rounds", desc := "()I" } : Jvm.MethodName)) ∈ lw_all := lw_g (lw_at lw_m2 106 rfl) rfl
theorem q413 : (Jvm.Cond.code ({ cls := "EnclosureReferee$Game", name := "rounds", desc := "()I" } : Jvm.MethodName) prog_5_method_3_code (1 : Nat) (Option.some Jvm.ClassFile.FieldType.int)) ∈ lw_all := lw_g (lw_at lw_m2 107 rfl) rfl
theorem q414 : (Jvm.Cond.methodLink "EnclosureReferee$Game" (87 : Nat) ({ cls := "EnclosureReferee$Round", name := "isEnd", desc := "()Z" } : Jvm.MethodName)) ∈ lw_all := lw_g (lw_at lw_m2 108 rfl) rfl
theorem q418 : (Jvm.Cond.methodLink "EnclosureReferee$Game" (91 : Nat) ({ cls := "EnclosureReferee$Game", name := "isOver", desc := "(LEnclosureReferee$Board;IZ)Z" } : Jvm.MethodName)) ∈ lw_all := lw_g (lw_at lw_m2 112 rfl) rfl
theorem q419 : (Jvm.Cond.privateMethod ({ cls := "EnclosureReferee$Game", name := "isOver", desc := "(LEnclosureReferee$Board;IZ)Z" } : Jvm.MethodName)) ∈ lw_tbl := lw_at lw_m2 113 rfl
theorem q420 : (Jvm.Cond.instanceMethod ({ cls := "EnclosureReferee$Game", name := "isOver", desc := "(LEnclosureReferee$Board;IZ)Z" } : Jvm.MethodName)) ∈ lw_all := lw_g (lw_at lw_m2 114 rfl) rfl
theorem q421 : (Jvm.Cond.code ({ cls := "EnclosureReferee$Game", name := "isOver", desc := "(LEnclosureReferee$Board;IZ)Z" } : Jvm.MethodName) prog_5_method_8_code (4 : Nat) (Option.some Jvm.ClassFile.FieldType.boolean)) ∈ lw_all := lw_g (lw_at lw_m2 115 rfl) rfl
theorem q422 : (Jvm.Cond.methodLink "EnclosureReferee$Game" (77 : Nat) ({ cls := "EnclosureReferee$Board", name := "empty", desc := "(LEnclosureReferee$Shape;)J" } : Jvm.MethodName)) ∈ lw_all := lw_g (lw_at lw_m2 116 rfl) rfl
theorem q472 : (Jvm.Cond.instanceMethod ({ cls := "EnclosureReferee$Game", name := "<init>", desc := "(LEnclosureReferee$Game;)V" } : Jvm.MethodName)) ∈ lw_all := lw_g (lw_at lw_m2 166 rfl) rfl
theorem q473 : (Jvm.Cond.code ({ cls := "EnclosureReferee$Game", name := "<init>", desc := "(LEnclosureReferee$Game;)V" } : Jvm.MethodName) prog_5_method_2_code (4 : Nat) (Option.none : Option Jvm.ClassFile.FieldType)) ∈ lw_all := lw_g (lw_at lw_m2 167 rfl) rfl
theorem q474 : (Jvm.Cond.methodLink "EnclosureReferee$Game" (51 : Nat) ({ cls := "java/lang/System", name := "arraycopy", desc := "(Ljava/lang/Object;ILjava/lang/Object;II)V" } : Jvm.MethodName)) ∈ lw_all := lw_g (lw_at lw_m2 168 rfl) rfl
theorem q684 : (Jvm.Cond.instanceMethod ({ cls := "EnclosureReferee$Game", name := "play", desc := "(II)I" } : Jvm.MethodName)) ∈ lw_all := lw_g (lw_at lw_m3 138 rfl) rfl
theorem q685 : (Jvm.Cond.selects "EnclosureReferee$Game" ({ cls := "EnclosureReferee$Game", name := "play", desc := "(II)I" } : Jvm.MethodName) ({ cls := "EnclosureReferee$Game", name := "play", desc := "(II)I" } : Jvm.MethodName)) ∈ lw_all := lw_g (lw_at lw_m3 139 rfl) rfl
theorem q686 : (Jvm.Cond.codeWith ({ cls := "EnclosureReferee$Game", name := "play", desc := "(II)I" } : Jvm.MethodName) prog_5_method_13_code (5 : Nat) (Option.some Jvm.ClassFile.FieldType.int) [((0 : Nat), (12 : Nat), (15 : Nat), (127 : Nat))]) ∈ lw_all := lw_g (lw_at lw_m3 140 rfl) rfl
theorem q687 : (Jvm.Cond.classLink "EnclosureReferee$Game" (127 : Nat) "EnclosureReferee$ChoiceException") ∈ lw_all := lw_g (lw_at lw_m3 141 rfl) rfl
theorem q688 : (Jvm.Cond.methodLink "EnclosureReferee$Game" (132 : Nat) ({ cls := "EnclosureReferee$Game", name := "checkChoice", desc := "(II)V" } : Jvm.MethodName)) ∈ lw_all := lw_g (lw_at lw_m3 142 rfl) rfl
theorem q689 : (Jvm.Cond.privateMethod ({ cls := "EnclosureReferee$Game", name := "checkChoice", desc := "(II)V" } : Jvm.MethodName)) ∈ lw_tbl := lw_at lw_m3 143 rfl
theorem q690 : (Jvm.Cond.instanceMethod ({ cls := "EnclosureReferee$Game", name := "checkChoice", desc := "(II)V" } : Jvm.MethodName)) ∈ lw_all := lw_g (lw_at lw_m3 144 rfl) rfl
theorem q691 : (Jvm.Cond.codeWith ({ cls := "EnclosureReferee$Game", name := "checkChoice", desc := "(II)V" } : Jvm.MethodName) prog_5_method_12_code (4 : Nat) (Option.none : Option Jvm.ClassFile.FieldType) [((0 : Nat), (10 : Nat), (13 : Nat), (108 : Nat))]) ∈ lw_all := lw_g (lw_at lw_m3 145 rfl) rfl
theorem q692 : (Jvm.Cond.classLink "EnclosureReferee$Game" (108 : Nat) "EnclosureReferee$CellException") ∈ lw_all := lw_g (lw_at lw_m3 146 rfl) rfl
theorem q693 : (Jvm.Cond.methodLink "EnclosureReferee$Game" (123 : Nat) ({ cls := "EnclosureReferee$Game", name := "checkCell", desc := "(I)V" } : Jvm.MethodName)) ∈ lw_all := lw_g (lw_at lw_m3 147 rfl) rfl
theorem q694 : (Jvm.Cond.privateMethod ({ cls := "EnclosureReferee$Game", name := "checkCell", desc := "(I)V" } : Jvm.MethodName)) ∈ lw_tbl := lw_at lw_m3 148 rfl
theorem q695 : (Jvm.Cond.instanceMethod ({ cls := "EnclosureReferee$Game", name := "checkCell", desc := "(I)V" } : Jvm.MethodName)) ∈ lw_all := lw_g (lw_at lw_m3 149 rfl) rfl
theorem q696 : (Jvm.Cond.code ({ cls := "EnclosureReferee$Game", name := "checkCell", desc := "(I)V" } : Jvm.MethodName) prog_5_method_11_code (5 : Nat) (Option.none : Option Jvm.ClassFile.FieldType)) ∈ lw_all := lw_g (lw_at lw_m3 150 rfl) rfl
theorem q697 : (Jvm.Cond.methodLink "EnclosureReferee$Game" (99 : Nat) ({ cls := "EnclosureReferee$Board", name := "state", desc := "(LEnclosureReferee$Shape;I)I" } : Jvm.MethodName)) ∈ lw_all := lw_g (lw_at lw_m3 151 rfl) rfl
theorem q717 : (Jvm.Cond.methodLink "EnclosureReferee$Game" (110 : Nat) ({ cls := "EnclosureReferee$CellException", name := "<init>", desc := "(IILEnclosureReferee$WaveException;)V" } : Jvm.MethodName)) ∈ lw_all := lw_g (lw_at lw_m3 171 rfl) rfl
theorem q737 : (Jvm.Cond.classLink "EnclosureReferee$Game" (113 : Nat) "EnclosureReferee$WaveException") ∈ lw_all := lw_g (lw_at lw_m3 191 rfl) rfl
theorem q746 : (Jvm.Cond.methodLink "EnclosureReferee$Game" (115 : Nat) ({ cls := "EnclosureReferee$Game", name := "round", desc := "(I)LEnclosureReferee$Round;" } : Jvm.MethodName)) ∈ lw_all := lw_g (lw_at lw_m3 200 rfl) rfl
theorem q747 : (Jvm.Cond.instanceMethod ({ cls := "EnclosureReferee$Game", name := "round", desc := "(I)LEnclosureReferee$Round;" } : Jvm.MethodName)) ∈ lw_all := lw_g (lw_at lw_m3 201 rfl) rfl
theorem q748 : (Jvm.Cond.selects "EnclosureReferee$Game" ({ cls := "EnclosureReferee$Game", name := "round", desc := "(I)LEnclosureReferee$Round;" } : Jvm.MethodName) ({ cls := "EnclosureReferee$Game", name := "round", desc := "(I)LEnclosureReferee$Round;" } : Jvm.MethodName)) ∈ lw_all := lw_g (lw_at lw_m3 202 rfl) rfl
theorem q749 : (Jvm.Cond.code ({ cls := "EnclosureReferee$Game", name := "round", desc := "(I)LEnclosureReferee$Round;" } : Jvm.MethodName) prog_5_method_4_code (2 : Nat) (Option.some (Jvm.ClassFile.FieldType.object "EnclosureReferee$Round"))) ∈ lw_all := lw_g (lw_at lw_m3 203 rfl) rfl
theorem q750 : (Jvm.Cond.methodLink "EnclosureReferee$Game" (122 : Nat) ({ cls := "EnclosureReferee$WaveException", name := "<init>", desc := "(II)V" } : Jvm.MethodName)) ∈ lw_all := lw_g (lw_at lw_m3 204 rfl) rfl
theorem q766 : (Jvm.Cond.methodLink "EnclosureReferee$Game" (129 : Nat) ({ cls := "EnclosureReferee$ChoiceException", name := "<init>", desc := "(IILEnclosureReferee$CellException;)V" } : Jvm.MethodName)) ∈ lw_all := lw_g (lw_at lw_m3 220 rfl) rfl
theorem q774 : (Jvm.Cond.classLink "EnclosureReferee$Game" (135 : Nat) "EnclosureReferee$RoundException") ∈ lw_all := lw_g (lw_at lw_m3 228 rfl) rfl
theorem q783 : (Jvm.Cond.methodLink "EnclosureReferee$Game" (137 : Nat) ({ cls := "EnclosureReferee$RoundException", name := "<init>", desc := "(ILEnclosureReferee$ChoiceException;)V" } : Jvm.MethodName)) ∈ lw_all := lw_g (lw_at lw_m3 237 rfl) rfl
theorem q791 : (Jvm.Cond.methodLink "EnclosureReferee$Game" (140 : Nat) ({ cls := "EnclosureReferee$Round", name := "<init>", desc := "(LEnclosureReferee$Round;II)V" } : Jvm.MethodName)) ∈ lw_all := lw_g (lw_at lw_m4 5 rfl) rfl
theorem q800 : (Jvm.Cond.methodLink "EnclosureReferee$Game" (143 : Nat) ({ cls := "EnclosureReferee$Game", name := "clash", desc := "(LEnclosureReferee$Board;)I" } : Jvm.MethodName)) ∈ lw_all := lw_g (lw_at lw_m4 14 rfl) rfl
theorem q801 : (Jvm.Cond.instanceMethod ({ cls := "EnclosureReferee$Game", name := "clash", desc := "(LEnclosureReferee$Board;)I" } : Jvm.MethodName)) ∈ lw_all := lw_g (lw_at lw_m4 15 rfl) rfl
theorem q802 : (Jvm.Cond.selects "EnclosureReferee$Game" ({ cls := "EnclosureReferee$Game", name := "clash", desc := "(LEnclosureReferee$Board;)I" } : Jvm.MethodName) ({ cls := "EnclosureReferee$Game", name := "clash", desc := "(LEnclosureReferee$Board;)I" } : Jvm.MethodName)) ∈ lw_all := lw_g (lw_at lw_m4 16 rfl) rfl
theorem q803 : (Jvm.Cond.code ({ cls := "EnclosureReferee$Game", name := "clash", desc := "(LEnclosureReferee$Board;)I" } : Jvm.MethodName) prog_5_method_10_code (3 : Nat) (Option.some Jvm.ClassFile.FieldType.int)) ∈ lw_all := lw_g (lw_at lw_m4 17 rfl) rfl
theorem q804 : (Jvm.Cond.methodLink "EnclosureReferee$Game" (95 : Nat) ({ cls := "EnclosureReferee$Game", name := "score", desc := "(LEnclosureReferee$Board;I)I" } : Jvm.MethodName)) ∈ lw_all := lw_g (lw_at lw_m4 18 rfl) rfl
theorem q805 : (Jvm.Cond.instanceMethod ({ cls := "EnclosureReferee$Game", name := "score", desc := "(LEnclosureReferee$Board;I)I" } : Jvm.MethodName)) ∈ lw_all := lw_g (lw_at lw_m4 19 rfl) rfl
theorem q806 : (Jvm.Cond.selects "EnclosureReferee$Game" ({ cls := "EnclosureReferee$Game", name := "score", desc := "(LEnclosureReferee$Board;I)I" } : Jvm.MethodName) ({ cls := "EnclosureReferee$Game", name := "score", desc := "(LEnclosureReferee$Board;I)I" } : Jvm.MethodName)) ∈ lw_all := lw_g (lw_at lw_m4 20 rfl) rfl
theorem q807 : (Jvm.Cond.code ({ cls := "EnclosureReferee$Game", name := "score", desc := "(LEnclosureReferee$Board;I)I" } : Jvm.MethodName) prog_5_method_7_code (3 : Nat) (Option.some Jvm.ClassFile.FieldType.int)) ∈ lw_all := lw_g (lw_at lw_m4 21 rfl) rfl
theorem q808 : (Jvm.Cond.methodLink "EnclosureReferee$Game" (73 : Nat) ({ cls := "EnclosureReferee$Board", name := "points", desc := "(I)I" } : Jvm.MethodName)) ∈ lw_all := lw_g (lw_at lw_m4 22 rfl) rfl
theorem q813 : (Jvm.Cond.methodLink "EnclosureReferee$Game" (147 : Nat) ({ cls := "EnclosureReferee$Round", name := "play", desc := "(LEnclosureReferee$Shape;II)V" } : Jvm.MethodName)) ∈ lw_all := lw_g (lw_at lw_m4 27 rfl) rfl
theorem q855 : (Jvm.Cond.methodLink "EnclosureReferee$Game" (154 : Nat) ({ cls := "EnclosureReferee$Round", name := "captures", desc := "()I" } : Jvm.MethodName)) ∈ lw_all := lw_g (lw_at lw_m4 69 rfl) rfl
theorem q1005 : (Jvm.Cond.instanceMethod ({ cls := "EnclosureReferee$Game", name := "stonesToEnclose", desc := "(II)I" } : Jvm.MethodName)) ∈ lw_all := lw_g (lw_at lw_m4 219 rfl) rfl
theorem q1006 : (Jvm.Cond.selects "EnclosureReferee$Game" ({ cls := "EnclosureReferee$Game", name := "stonesToEnclose", desc := "(II)I" } : Jvm.MethodName) ({ cls := "EnclosureReferee$Game", name := "stonesToEnclose", desc := "(II)I" } : Jvm.MethodName)) ∈ lw_all := lw_g (lw_at lw_m4 220 rfl) rfl
theorem q1007 : (Jvm.Cond.code ({ cls := "EnclosureReferee$Game", name := "stonesToEnclose", desc := "(II)I" } : Jvm.MethodName) prog_5_method_21_code (8 : Nat) (Option.some Jvm.ClassFile.FieldType.int)) ∈ lw_all := lw_g (lw_at lw_m4 221 rfl) rfl
theorem q1008 : (Jvm.Cond.methodLink "EnclosureReferee$Game" (217 : Nat) ({ cls := "EnclosureReferee$Game", name := "isEnclosed", desc := "(IIJ)Z" } : Jvm.MethodName)) ∈ lw_all := lw_g (lw_at lw_m4 222 rfl) rfl
theorem q1009 : (Jvm.Cond.privateMethod ({ cls := "EnclosureReferee$Game", name := "isEnclosed", desc := "(IIJ)Z" } : Jvm.MethodName)) ∈ lw_tbl := lw_at lw_m4 223 rfl
theorem q1010 : (Jvm.Cond.instanceMethod ({ cls := "EnclosureReferee$Game", name := "isEnclosed", desc := "(IIJ)Z" } : Jvm.MethodName)) ∈ lw_all := lw_g (lw_at lw_m4 224 rfl) rfl
theorem q1011 : (Jvm.Cond.code ({ cls := "EnclosureReferee$Game", name := "isEnclosed", desc := "(IIJ)Z" } : Jvm.MethodName) prog_5_method_20_code (7 : Nat) (Option.some Jvm.ClassFile.FieldType.boolean)) ∈ lw_all := lw_g (lw_at lw_m4 225 rfl) rfl
theorem q1012 : (Jvm.Cond.methodLink "EnclosureReferee$Game" (203 : Nat) ({ cls := "EnclosureReferee$Board", name := "open", desc := "(LEnclosureReferee$Shape;I)J" } : Jvm.MethodName)) ∈ lw_all := lw_g (lw_at lw_m4 226 rfl) rfl
theorem q1013 : (Jvm.Cond.constantLong "EnclosureReferee$Game" (207 : Nat) (-1 : Int64)) ∈ lw_all := lw_g (lw_at lw_m4 227 rfl) rfl
theorem q1014 : (Jvm.Cond.methodLinkNest "EnclosureReferee$Game" (179 : Nat) ({ cls := "EnclosureReferee", name := "has", desc := "(JI)Z" } : Jvm.MethodName) "EnclosureReferee") ∈ lw_tbl := lw_at lw_m4 228 rfl
theorem q1015 : (Jvm.Cond.methodLink "EnclosureReferee$Game" (209 : Nat) ({ cls := "EnclosureReferee$Shape", name := "connected", desc := "(IJ)J" } : Jvm.MethodName)) ∈ lw_all := lw_g (lw_at lw_m4 229 rfl) rfl
theorem q1016 : (Jvm.Cond.methodLink "EnclosureReferee$Game" (213 : Nat) ({ cls := "EnclosureReferee$Shape", name := "isInside", desc := "(J)Z" } : Jvm.MethodName)) ∈ lw_all := lw_g (lw_at lw_m4 230 rfl) rfl
theorem q1017 : (Jvm.Cond.methodLink "EnclosureReferee$Game" (176 : Nat) ({ cls := "EnclosureReferee$Shape", name := "cells", desc := "()I" } : Jvm.MethodName)) ∈ lw_all := lw_g (lw_at lw_m4 231 rfl) rfl
theorem q1018 : (Jvm.Cond.methodLinkNest "EnclosureReferee$Game" (221 : Nat) ({ cls := "EnclosureReferee", name := "bit", desc := "(I)J" } : Jvm.MethodName) "EnclosureReferee") ∈ lw_tbl := lw_at lw_m4 232 rfl
theorem q1060 : (Jvm.Cond.instanceMethod ({ cls := "EnclosureReferee$Game", name := "guarantee", desc := "(III)I" } : Jvm.MethodName)) ∈ lw_all := lw_g (lw_at lw_m5 34 rfl) rfl
theorem q1061 : (Jvm.Cond.selects "EnclosureReferee$Game" ({ cls := "EnclosureReferee$Game", name := "guarantee", desc := "(III)I" } : Jvm.MethodName) ({ cls := "EnclosureReferee$Game", name := "guarantee", desc := "(III)I" } : Jvm.MethodName)) ∈ lw_all := lw_g (lw_at lw_m5 35 rfl) rfl
theorem q1062 : (Jvm.Cond.code ({ cls := "EnclosureReferee$Game", name := "guarantee", desc := "(III)I" } : Jvm.MethodName) prog_5_method_18_code (4 : Nat) (Option.some Jvm.ClassFile.FieldType.int)) ∈ lw_all := lw_g (lw_at lw_m5 36 rfl) rfl
theorem q1063 : (Jvm.Cond.methodLink "EnclosureReferee$Game" (157 : Nat) ({ cls := "EnclosureReferee$Board", name := "set", desc := "(LEnclosureReferee$Board;)V" } : Jvm.MethodName)) ∈ lw_all := lw_g (lw_at lw_m5 37 rfl) rfl
theorem q1064 : (Jvm.Cond.methodLink "EnclosureReferee$Game" (172 : Nat) ({ cls := "EnclosureReferee$Game", name := "guarantee", desc := "(IIII)I" } : Jvm.MethodName)) ∈ lw_all := lw_g (lw_at lw_m5 38 rfl) rfl
theorem q1065 : (Jvm.Cond.privateMethod ({ cls := "EnclosureReferee$Game", name := "guarantee", desc := "(IIII)I" } : Jvm.MethodName)) ∈ lw_tbl := lw_at lw_m5 39 rfl
theorem q1066 : (Jvm.Cond.instanceMethod ({ cls := "EnclosureReferee$Game", name := "guarantee", desc := "(IIII)I" } : Jvm.MethodName)) ∈ lw_all := lw_g (lw_at lw_m5 40 rfl) rfl
theorem q1067 : (Jvm.Cond.code ({ cls := "EnclosureReferee$Game", name := "guarantee", desc := "(IIII)I" } : Jvm.MethodName) prog_5_method_17_code (7 : Nat) (Option.some Jvm.ClassFile.FieldType.int)) ∈ lw_all := lw_g (lw_at lw_m5 41 rfl) rfl
theorem q1068 : (Jvm.Cond.methodLink "EnclosureReferee$Game" (189 : Nat) ({ cls := "EnclosureReferee$Game", name := "attempt", desc := "(IIII)V" } : Jvm.MethodName)) ∈ lw_all := lw_g (lw_at lw_m5 42 rfl) rfl
theorem q1069 : (Jvm.Cond.privateMethod ({ cls := "EnclosureReferee$Game", name := "attempt", desc := "(IIII)V" } : Jvm.MethodName)) ∈ lw_tbl := lw_at lw_m5 43 rfl
theorem q1070 : (Jvm.Cond.instanceMethod ({ cls := "EnclosureReferee$Game", name := "attempt", desc := "(IIII)V" } : Jvm.MethodName)) ∈ lw_all := lw_g (lw_at lw_m5 44 rfl) rfl
theorem q1071 : (Jvm.Cond.code ({ cls := "EnclosureReferee$Game", name := "attempt", desc := "(IIII)V" } : Jvm.MethodName) prog_5_method_14_code (8 : Nat) (Option.none : Option Jvm.ClassFile.FieldType)) ∈ lw_all := lw_g (lw_at lw_m5 45 rfl) rfl
theorem q1072 : (Jvm.Cond.methodLink "EnclosureReferee$Game" (161 : Nat) ({ cls := "EnclosureReferee$Board", name := "place", desc := "(III)V" } : Jvm.MethodName)) ∈ lw_all := lw_g (lw_at lw_m5 46 rfl) rfl
theorem q1073 : (Jvm.Cond.methodLink "EnclosureReferee$Game" (165 : Nat) ({ cls := "EnclosureReferee$Board", name := "wave", desc := "(LEnclosureReferee$Shape;)I" } : Jvm.MethodName)) ∈ lw_all := lw_g (lw_at lw_m5 47 rfl) rfl
theorem q1074 : (Jvm.Cond.methodLink "EnclosureReferee$Game" (193 : Nat) ({ cls := "EnclosureReferee$Game", name := "value", desc := "(IIIZ)I" } : Jvm.MethodName)) ∈ lw_all := lw_g (lw_at lw_m5 48 rfl) rfl
theorem q1075 : (Jvm.Cond.privateMethod ({ cls := "EnclosureReferee$Game", name := "value", desc := "(IIIZ)I" } : Jvm.MethodName)) ∈ lw_tbl := lw_at lw_m5 49 rfl
theorem q1076 : (Jvm.Cond.instanceMethod ({ cls := "EnclosureReferee$Game", name := "value", desc := "(IIIZ)I" } : Jvm.MethodName)) ∈ lw_all := lw_g (lw_at lw_m5 50 rfl) rfl
theorem q1077 : (Jvm.Cond.code ({ cls := "EnclosureReferee$Game", name := "value", desc := "(IIIZ)I" } : Jvm.MethodName) prog_5_method_16_code (7 : Nat) (Option.some Jvm.ClassFile.FieldType.int)) ∈ lw_all := lw_g (lw_at lw_m5 51 rfl) rfl
theorem q1078 : (Jvm.Cond.methodLink "EnclosureReferee$Game" (169 : Nat) ({ cls := "EnclosureReferee$Game", name := "outcome", desc := "(LEnclosureReferee$Board;I)I" } : Jvm.MethodName)) ∈ lw_all := lw_g (lw_at lw_m5 52 rfl) rfl
theorem q1079 : (Jvm.Cond.privateMethod ({ cls := "EnclosureReferee$Game", name := "outcome", desc := "(LEnclosureReferee$Board;I)I" } : Jvm.MethodName)) ∈ lw_tbl := lw_at lw_m5 53 rfl
theorem q1080 : (Jvm.Cond.instanceMethod ({ cls := "EnclosureReferee$Game", name := "outcome", desc := "(LEnclosureReferee$Board;I)I" } : Jvm.MethodName)) ∈ lw_all := lw_g (lw_at lw_m5 54 rfl) rfl
theorem q1081 : (Jvm.Cond.code ({ cls := "EnclosureReferee$Game", name := "outcome", desc := "(LEnclosureReferee$Board;I)I" } : Jvm.MethodName) prog_5_method_15_code (3 : Nat) (Option.some Jvm.ClassFile.FieldType.int)) ∈ lw_all := lw_g (lw_at lw_m5 55 rfl) rfl
theorem q1082 : (Jvm.Cond.methodLink "EnclosureReferee$Game" (183 : Nat) ({ cls := "java/lang/Math", name := "max", desc := "(II)I" } : Jvm.MethodName)) ∈ lw_all := lw_g (lw_at lw_m5 56 rfl) rfl
theorem q1083 : (Jvm.Cond.methodLink "EnclosureReferee$Game" (197 : Nat) ({ cls := "java/lang/Math", name := "min", desc := "(II)I" } : Jvm.MethodName)) ∈ lw_all := lw_g (lw_at lw_m5 57 rfl) rfl
theorem q1092 : (Jvm.Cond.instanceMethod ({ cls := "EnclosureReferee$Game", name := "best", desc := "(II)I" } : Jvm.MethodName)) ∈ lw_all := lw_g (lw_at lw_m5 66 rfl) rfl
theorem q1093 : (Jvm.Cond.selects "EnclosureReferee$Game" ({ cls := "EnclosureReferee$Game", name := "best", desc := "(II)I" } : Jvm.MethodName) ({ cls := "EnclosureReferee$Game", name := "best", desc := "(II)I" } : Jvm.MethodName)) ∈ lw_all := lw_g (lw_at lw_m5 67 rfl) rfl
theorem q1094 : (Jvm.Cond.code ({ cls := "EnclosureReferee$Game", name := "best", desc := "(II)I" } : Jvm.MethodName) prog_5_method_19_code (7 : Nat) (Option.some Jvm.ClassFile.FieldType.int)) ∈ lw_all := lw_g (lw_at lw_m5 68 rfl) rfl
theorem q1095 : (Jvm.Cond.methodLink "EnclosureReferee$Game" (200 : Nat) ({ cls := "EnclosureReferee$Game", name := "guarantee", desc := "(III)I" } : Jvm.MethodName)) ∈ lw_all := lw_g (lw_at lw_m5 69 rfl) rfl
theorem q1897 : (Jvm.Cond.castable "EnclosureReferee$Game" "java/lang/Object") ∈ lw_tbl := lw_at lw_m8 151 rfl
theorem in_X2 : ∀ w ∈ wsX20, w ∈ lw_all := lw_in wsX20 [337, 339, 341, 343, 345] (by decide +kernel) (by decide +kernel)
/-! EnclosureReferee$Board -/
set_option maxRecDepth 100000
def RX3 : String := "EnclosureReferee$Board"
def TX3 : u_T := fun k => match k with
  | 0 => ("EnclosureReferee$Board", "stones", "[J", true)
  | 1 => ("EnclosureReferee$Board", "areas", "[J", true)
  | 2 => ("EnclosureReferee$Board", "blocks", "J", false)
  | 3 => ("EnclosureReferee$Board", "captured", "[I", true)
  | _ => ("EnclosureReferee$Board", "gained", "[J", true)
def tyX3 : Nat → FieldType := fun k => match k with
  | 0 => .array .long
  | 1 => .array .long
  | 2 => .long
  | 3 => .array .int
  | _ => .array .long
abbrev wsX30 : List Cond := u_ws RX3 TX3 5
theorem nmX3 : ∀ a, a < 5 → ∀ b, b < 5 → a ≠ b → (TX3 a).2.1 ≠ (TX3 b).2.1 := by decide +kernel
theorem tyX3_ok : ∀ k, k < 5 → parseFieldDescriptor (TX3 k).2.2.1 = some (tyX3 k) := by decide +kernel
abbrev cX3_init : ByteArray := prog_2_method_1_code
def yX3_init : MethodName := ⟨RX3, "<init>", "()V"⟩
def dkwX3_init_1 : List UInt8 := [181, 0, 18, 42, 5, 188, 11, 181, 0, 22, 177]
abbrev dktX3_init_1 : List UInt8 := dkwX3_init_1 ++ []
def dkwX3_init_0 : List UInt8 := [42, 183, 0, 3, 42, 5, 188, 11, 181, 0, 9, 42, 5, 188, 11, 181, 0, 15, 42, 5, 188, 10]
abbrev dktX3_init_0 : List UInt8 := dkwX3_init_0 ++ dktX3_init_1
theorem dksX3_init_0 : cX3_init.data.toList.drop 0 = dktX3_init_0 := by decide +kernel
theorem dksX3_init_1 : cX3_init.data.toList.drop 22 = dktX3_init_1 := dk_seg dksX3_init_0 22 rfl rfl
theorem dX3_init_0 : decode cX3_init 0 = .ok (.aload_n 0, 1) := dk_42 (dk_at dksX3_init_0 0 rfl rfl)
theorem dX3_init_1 : decode cX3_init 1 = .ok (.invokespecial 3, 3) := dk_183 0 3 (dk_at dksX3_init_0 1 rfl rfl)
theorem dX3_init_4 : decode cX3_init 4 = .ok (.aload_n 0, 1) := dk_42 (dk_at dksX3_init_0 4 rfl rfl)
theorem dX3_init_5 : decode cX3_init 5 = .ok (.iconst 2, 1) := dk_5 (dk_at dksX3_init_0 5 rfl rfl)
theorem dX3_init_6 : decode cX3_init 6 = .ok (.newarray .long, 2) := dk_188_11 (dk_at dksX3_init_0 6 rfl rfl)
theorem dX3_init_8 : decode cX3_init 8 = .ok (.putfield 9, 3) := dk_181 0 9 (dk_at dksX3_init_0 8 rfl rfl)
theorem dX3_init_11 : decode cX3_init 11 = .ok (.aload_n 0, 1) := dk_42 (dk_at dksX3_init_0 11 rfl rfl)
theorem dX3_init_12 : decode cX3_init 12 = .ok (.iconst 2, 1) := dk_5 (dk_at dksX3_init_0 12 rfl rfl)
theorem dX3_init_13 : decode cX3_init 13 = .ok (.newarray .long, 2) := dk_188_11 (dk_at dksX3_init_0 13 rfl rfl)
theorem dX3_init_15 : decode cX3_init 15 = .ok (.putfield 15, 3) := dk_181 0 15 (dk_at dksX3_init_0 15 rfl rfl)
theorem dX3_init_18 : decode cX3_init 18 = .ok (.aload_n 0, 1) := dk_42 (dk_at dksX3_init_0 18 rfl rfl)
theorem dX3_init_19 : decode cX3_init 19 = .ok (.iconst 2, 1) := dk_5 (dk_at dksX3_init_0 19 rfl rfl)
theorem dX3_init_20 : decode cX3_init 20 = .ok (.newarray .int, 2) := dk_188_10 (dk_at dksX3_init_0 20 rfl rfl)
theorem dX3_init_22 : decode cX3_init 22 = .ok (.putfield 18, 3) := dk_181 0 18 (dk_at dksX3_init_1 0 rfl rfl)
theorem dX3_init_25 : decode cX3_init 25 = .ok (.aload_n 0, 1) := dk_42 (dk_at dksX3_init_1 3 rfl rfl)
theorem dX3_init_26 : decode cX3_init 26 = .ok (.iconst 2, 1) := dk_5 (dk_at dksX3_init_1 4 rfl rfl)
theorem dX3_init_27 : decode cX3_init 27 = .ok (.newarray .long, 2) := dk_188_11 (dk_at dksX3_init_1 5 rfl rfl)
theorem dX3_init_29 : decode cX3_init 29 = .ok (.putfield 22, 3) := dk_181 0 22 (dk_at dksX3_init_1 7 rfl rfl)
theorem dX3_init_32 : decode cX3_init 32 = .ok (.return_, 1) := dk_177 (dk_at dksX3_init_1 10 rfl rfl)
abbrev cX3_empty : ByteArray := prog_2_method_4_code
def yX3_empty : MethodName := ⟨RX3, "empty", "(LEnclosureReferee$Shape;)J"⟩
def dkwX3_empty_1 : List UInt8 := [127, 173]
abbrev dktX3_empty_1 : List UInt8 := dkwX3_empty_1 ++ []
def dkwX3_empty_0 : List UInt8 := [43, 180, 0, 35, 42, 3, 182, 0, 40, 42, 4, 182, 0, 40, 129, 42, 180, 0, 31, 129, 20, 0, 44, 131]
abbrev dktX3_empty_0 : List UInt8 := dkwX3_empty_0 ++ dktX3_empty_1
theorem dksX3_empty_0 : cX3_empty.data.toList.drop 0 = dktX3_empty_0 := by decide +kernel
theorem dksX3_empty_1 : cX3_empty.data.toList.drop 24 = dktX3_empty_1 := dk_seg dksX3_empty_0 24 rfl rfl
theorem dX3_empty_0 : decode cX3_empty 0 = .ok (.aload_n 1, 1) := dk_43 (dk_at dksX3_empty_0 0 rfl rfl)
theorem dX3_empty_1 : decode cX3_empty 1 = .ok (.getfield 35, 3) := dk_180 0 35 (dk_at dksX3_empty_0 1 rfl rfl)
theorem dX3_empty_4 : decode cX3_empty 4 = .ok (.aload_n 0, 1) := dk_42 (dk_at dksX3_empty_0 4 rfl rfl)
theorem dX3_empty_5 : decode cX3_empty 5 = .ok (.iconst 0, 1) := dk_3 (dk_at dksX3_empty_0 5 rfl rfl)
theorem dX3_empty_6 : decode cX3_empty 6 = .ok (.invokevirtual 40, 3) := dk_182 0 40 (dk_at dksX3_empty_0 6 rfl rfl)
theorem dX3_empty_9 : decode cX3_empty 9 = .ok (.aload_n 0, 1) := dk_42 (dk_at dksX3_empty_0 9 rfl rfl)
theorem dX3_empty_10 : decode cX3_empty 10 = .ok (.iconst 1, 1) := dk_4 (dk_at dksX3_empty_0 10 rfl rfl)
theorem dX3_empty_11 : decode cX3_empty 11 = .ok (.invokevirtual 40, 3) := dk_182 0 40 (dk_at dksX3_empty_0 11 rfl rfl)
theorem dX3_empty_14 : decode cX3_empty 14 = .ok (.lor, 1) := dk_129 (dk_at dksX3_empty_0 14 rfl rfl)
theorem dX3_empty_15 : decode cX3_empty 15 = .ok (.aload_n 0, 1) := dk_42 (dk_at dksX3_empty_0 15 rfl rfl)
theorem dX3_empty_16 : decode cX3_empty 16 = .ok (.getfield 31, 3) := dk_180 0 31 (dk_at dksX3_empty_0 16 rfl rfl)
theorem dX3_empty_19 : decode cX3_empty 19 = .ok (.lor, 1) := dk_129 (dk_at dksX3_empty_0 19 rfl rfl)
theorem dX3_empty_20 : decode cX3_empty 20 = .ok (.ldc2_w 44, 3) := dk_20 0 44 (dk_at dksX3_empty_0 20 rfl rfl)
theorem dX3_empty_23 : decode cX3_empty 23 = .ok (.lxor, 1) := dk_131 (dk_at dksX3_empty_0 23 rfl rfl)
theorem dX3_empty_24 : decode cX3_empty 24 = .ok (.land, 1) := dk_127 (dk_at dksX3_empty_1 0 rfl rfl)
theorem dX3_empty_25 : decode cX3_empty 25 = .ok (.lreturn, 1) := dk_173 (dk_at dksX3_empty_1 1 rfl rfl)
abbrev cX3_own : ByteArray := prog_2_method_3_code
def yX3_own : MethodName := ⟨RX3, "own", "(I)J"⟩
def dkwX3_own_0 : List UInt8 := [42, 180, 0, 9, 27, 47, 42, 180, 0, 15, 27, 47, 129, 173]
abbrev dktX3_own_0 : List UInt8 := dkwX3_own_0 ++ []
theorem dksX3_own_0 : cX3_own.data.toList.drop 0 = dktX3_own_0 := by decide +kernel
theorem dX3_own_0 : decode cX3_own 0 = .ok (.aload_n 0, 1) := dk_42 (dk_at dksX3_own_0 0 rfl rfl)
theorem dX3_own_1 : decode cX3_own 1 = .ok (.getfield 9, 3) := dk_180 0 9 (dk_at dksX3_own_0 1 rfl rfl)
theorem dX3_own_4 : decode cX3_own 4 = .ok (.iload_n 1, 1) := dk_27 (dk_at dksX3_own_0 4 rfl rfl)
theorem dX3_own_5 : decode cX3_own 5 = .ok (.laload, 1) := dk_47 (dk_at dksX3_own_0 5 rfl rfl)
theorem dX3_own_6 : decode cX3_own 6 = .ok (.aload_n 0, 1) := dk_42 (dk_at dksX3_own_0 6 rfl rfl)
theorem dX3_own_7 : decode cX3_own 7 = .ok (.getfield 15, 3) := dk_180 0 15 (dk_at dksX3_own_0 7 rfl rfl)
theorem dX3_own_10 : decode cX3_own 10 = .ok (.iload_n 1, 1) := dk_27 (dk_at dksX3_own_0 10 rfl rfl)
theorem dX3_own_11 : decode cX3_own 11 = .ok (.laload, 1) := dk_47 (dk_at dksX3_own_0 11 rfl rfl)
theorem dX3_own_12 : decode cX3_own 12 = .ok (.lor, 1) := dk_129 (dk_at dksX3_own_0 12 rfl rfl)
theorem dX3_own_13 : decode cX3_own 13 = .ok (.lreturn, 1) := dk_173 (dk_at dksX3_own_0 13 rfl rfl)
abbrev cX3_state : ByteArray := prog_2_method_7_code
def yX3_state : MethodName := ⟨RX3, "state", "(LEnclosureReferee$Shape;I)I"⟩
def dkwX3_state_1 : List UInt8 := [153, 0, 8, 21, 4, 167, 0, 4, 29, 62, 132, 4, 1, 167, 255, 225, 29, 172]
abbrev dktX3_state_1 : List UInt8 := dkwX3_state_1 ++ []
def dkwX3_state_0 : List UInt8 := [3, 62, 3, 54, 4, 21, 4, 16, 6, 162, 0, 30, 42, 43, 21, 4, 182, 0, 50, 28, 184, 0, 54]
abbrev dktX3_state_0 : List UInt8 := dkwX3_state_0 ++ dktX3_state_1
theorem dksX3_state_0 : cX3_state.data.toList.drop 0 = dktX3_state_0 := by decide +kernel
theorem dksX3_state_1 : cX3_state.data.toList.drop 23 = dktX3_state_1 := dk_seg dksX3_state_0 23 rfl rfl
theorem dX3_state_0 : decode cX3_state 0 = .ok (.iconst 0, 1) := dk_3 (dk_at dksX3_state_0 0 rfl rfl)
theorem dX3_state_1 : decode cX3_state 1 = .ok (.istore_n 3, 1) := dk_62 (dk_at dksX3_state_0 1 rfl rfl)
theorem dX3_state_2 : decode cX3_state 2 = .ok (.iconst 0, 1) := dk_3 (dk_at dksX3_state_0 2 rfl rfl)
theorem dX3_state_3 : decode cX3_state 3 = .ok (.istore 4, 2) := dk_54 4 (dk_at dksX3_state_0 3 rfl rfl)
theorem dX3_state_5 : decode cX3_state 5 = .ok (.iload 4, 2) := dk_21 4 (dk_at dksX3_state_0 5 rfl rfl)
theorem dX3_state_7 : decode cX3_state 7 = .ok (.bipush 6, 2) := dk_16 6 (dk_at dksX3_state_0 7 rfl rfl)
theorem dX3_state_9 : decode cX3_state 9 = .ok (.if_icmp .ge 30, 3) := dk_162 0 30 (dk_at dksX3_state_0 9 rfl rfl)
theorem dX3_state_12 : decode cX3_state 12 = .ok (.aload_n 0, 1) := dk_42 (dk_at dksX3_state_0 12 rfl rfl)
theorem dX3_state_13 : decode cX3_state 13 = .ok (.aload_n 1, 1) := dk_43 (dk_at dksX3_state_0 13 rfl rfl)
theorem dX3_state_14 : decode cX3_state 14 = .ok (.iload 4, 2) := dk_21 4 (dk_at dksX3_state_0 14 rfl rfl)
theorem dX3_state_16 : decode cX3_state 16 = .ok (.invokevirtual 50, 3) := dk_182 0 50 (dk_at dksX3_state_0 16 rfl rfl)
theorem dX3_state_19 : decode cX3_state 19 = .ok (.iload_n 2, 1) := dk_28 (dk_at dksX3_state_0 19 rfl rfl)
theorem dX3_state_20 : decode cX3_state 20 = .ok (.invokestatic 54, 3) := dk_184 0 54 (dk_at dksX3_state_0 20 rfl rfl)
theorem dX3_state_23 : decode cX3_state 23 = .ok (.ifCond .eq 8, 3) := dk_153 0 8 (dk_at dksX3_state_1 0 rfl rfl)
theorem dX3_state_26 : decode cX3_state 26 = .ok (.iload 4, 2) := dk_21 4 (dk_at dksX3_state_1 3 rfl rfl)
theorem dX3_state_28 : decode cX3_state 28 = .ok (.goto 4, 3) := dk_167 0 4 (dk_at dksX3_state_1 5 rfl rfl)
theorem dX3_state_31 : decode cX3_state 31 = .ok (.iload_n 3, 1) := dk_29 (dk_at dksX3_state_1 8 rfl rfl)
theorem dX3_state_32 : decode cX3_state 32 = .ok (.istore_n 3, 1) := dk_62 (dk_at dksX3_state_1 9 rfl rfl)
theorem dX3_state_33 : decode cX3_state 33 = .ok (.iinc 4 1, 3) := dk_132 4 1 (dk_at dksX3_state_1 10 rfl rfl)
theorem dX3_state_36 : decode cX3_state 36 = .ok (.goto (-31), 3) := dk_167 255 225 (dk_at dksX3_state_1 13 rfl rfl)
theorem dX3_state_39 : decode cX3_state 39 = .ok (.iload_n 3, 1) := dk_29 (dk_at dksX3_state_1 16 rfl rfl)
theorem dX3_state_40 : decode cX3_state 40 = .ok (.ireturn, 1) := dk_172 (dk_at dksX3_state_1 17 rfl rfl)
abbrev cX3_cells : ByteArray := prog_2_method_6_code
def yX3_cells : MethodName := ⟨RX3, "cells", "(LEnclosureReferee$Shape;I)J"⟩
def dkwX3_cells_3 : List UInt8 := [167, 0, 11, 42, 180, 0, 15, 28, 6, 100, 47, 173]
abbrev dktX3_cells_3 : List UInt8 := dkwX3_cells_3 ++ []
def dkwX3_cells_2 : List UInt8 := [42, 43, 182, 0, 46, 173, 42, 180, 0, 31, 173, 28, 6, 162, 0, 14, 42, 180, 0, 9, 28, 4, 100, 47]
abbrev dktX3_cells_2 : List UInt8 := dkwX3_cells_2 ++ dktX3_cells_3
def dkwX3_cells_1 : List UInt8 := [171, 0, 0, 0, 0, 0, 38, 0, 0, 0, 2, 0, 0, 0, 0, 0, 0, 0, 27, 0, 0, 0, 5, 0, 0, 0, 33]
abbrev dktX3_cells_1 : List UInt8 := dkwX3_cells_1 ++ dktX3_cells_2
def dkwX3_cells_0 : List UInt8 := [28]
abbrev dktX3_cells_0 : List UInt8 := dkwX3_cells_0 ++ dktX3_cells_1
theorem dksX3_cells_0 : cX3_cells.data.toList.drop 0 = dktX3_cells_0 := by decide +kernel
theorem dksX3_cells_1 : cX3_cells.data.toList.drop 1 = dktX3_cells_1 := dk_seg dksX3_cells_0 1 rfl rfl
theorem dksX3_cells_2 : cX3_cells.data.toList.drop 28 = dktX3_cells_2 := dk_seg dksX3_cells_1 27 rfl rfl
theorem dksX3_cells_3 : cX3_cells.data.toList.drop 52 = dktX3_cells_3 := dk_seg dksX3_cells_2 24 rfl rfl
theorem dX3_cells_0 : decode cX3_cells 0 = .ok (.iload_n 2, 1) := dk_28 (dk_at dksX3_cells_0 0 rfl rfl)
theorem dX3_cells_1 : decode cX3_cells 1 = .ok (.lookupswitch 38 #[(0, 27), (5, 33)], 27) := by decide +kernel
theorem dX3_cells_28 : decode cX3_cells 28 = .ok (.aload_n 0, 1) := dk_42 (dk_at dksX3_cells_2 0 rfl rfl)
theorem dX3_cells_29 : decode cX3_cells 29 = .ok (.aload_n 1, 1) := dk_43 (dk_at dksX3_cells_2 1 rfl rfl)
theorem dX3_cells_30 : decode cX3_cells 30 = .ok (.invokevirtual 46, 3) := dk_182 0 46 (dk_at dksX3_cells_2 2 rfl rfl)
theorem dX3_cells_33 : decode cX3_cells 33 = .ok (.lreturn, 1) := dk_173 (dk_at dksX3_cells_2 5 rfl rfl)
theorem dX3_cells_34 : decode cX3_cells 34 = .ok (.aload_n 0, 1) := dk_42 (dk_at dksX3_cells_2 6 rfl rfl)
theorem dX3_cells_35 : decode cX3_cells 35 = .ok (.getfield 31, 3) := dk_180 0 31 (dk_at dksX3_cells_2 7 rfl rfl)
theorem dX3_cells_38 : decode cX3_cells 38 = .ok (.lreturn, 1) := dk_173 (dk_at dksX3_cells_2 10 rfl rfl)
theorem dX3_cells_39 : decode cX3_cells 39 = .ok (.iload_n 2, 1) := dk_28 (dk_at dksX3_cells_2 11 rfl rfl)
theorem dX3_cells_40 : decode cX3_cells 40 = .ok (.iconst 3, 1) := dk_6 (dk_at dksX3_cells_2 12 rfl rfl)
theorem dX3_cells_41 : decode cX3_cells 41 = .ok (.if_icmp .ge 14, 3) := dk_162 0 14 (dk_at dksX3_cells_2 13 rfl rfl)
theorem dX3_cells_44 : decode cX3_cells 44 = .ok (.aload_n 0, 1) := dk_42 (dk_at dksX3_cells_2 16 rfl rfl)
theorem dX3_cells_45 : decode cX3_cells 45 = .ok (.getfield 9, 3) := dk_180 0 9 (dk_at dksX3_cells_2 17 rfl rfl)
theorem dX3_cells_48 : decode cX3_cells 48 = .ok (.iload_n 2, 1) := dk_28 (dk_at dksX3_cells_2 20 rfl rfl)
theorem dX3_cells_49 : decode cX3_cells 49 = .ok (.iconst 1, 1) := dk_4 (dk_at dksX3_cells_2 21 rfl rfl)
theorem dX3_cells_50 : decode cX3_cells 50 = .ok (.isub, 1) := dk_100 (dk_at dksX3_cells_2 22 rfl rfl)
theorem dX3_cells_51 : decode cX3_cells 51 = .ok (.laload, 1) := dk_47 (dk_at dksX3_cells_2 23 rfl rfl)
theorem dX3_cells_52 : decode cX3_cells 52 = .ok (.goto 11, 3) := dk_167 0 11 (dk_at dksX3_cells_3 0 rfl rfl)
theorem dX3_cells_55 : decode cX3_cells 55 = .ok (.aload_n 0, 1) := dk_42 (dk_at dksX3_cells_3 3 rfl rfl)
theorem dX3_cells_56 : decode cX3_cells 56 = .ok (.getfield 15, 3) := dk_180 0 15 (dk_at dksX3_cells_3 4 rfl rfl)
theorem dX3_cells_59 : decode cX3_cells 59 = .ok (.iload_n 2, 1) := dk_28 (dk_at dksX3_cells_3 7 rfl rfl)
theorem dX3_cells_60 : decode cX3_cells 60 = .ok (.iconst 3, 1) := dk_6 (dk_at dksX3_cells_3 8 rfl rfl)
theorem dX3_cells_61 : decode cX3_cells 61 = .ok (.isub, 1) := dk_100 (dk_at dksX3_cells_3 9 rfl rfl)
theorem dX3_cells_62 : decode cX3_cells 62 = .ok (.laload, 1) := dk_47 (dk_at dksX3_cells_3 10 rfl rfl)
theorem dX3_cells_63 : decode cX3_cells 63 = .ok (.lreturn, 1) := dk_173 (dk_at dksX3_cells_3 11 rfl rfl)
abbrev cX3_set : ByteArray := prog_2_method_2_code
def yX3_set : MethodName := ⟨RX3, "set", "(LEnclosureReferee$Board;)V"⟩
def dkwX3_set_2 : List UInt8 := [181, 0, 31, 177]
abbrev dktX3_set_2 : List UInt8 := dkwX3_set_2 ++ []
def dkwX3_set_1 : List UInt8 := [5, 184, 0, 25, 43, 180, 0, 18, 3, 42, 180, 0, 18, 3, 5, 184, 0, 25, 42, 43, 180, 0, 31]
abbrev dktX3_set_1 : List UInt8 := dkwX3_set_1 ++ dktX3_set_2
def dkwX3_set_0 : List UInt8 := [43, 180, 0, 9, 3, 42, 180, 0, 9, 3, 5, 184, 0, 25, 43, 180, 0, 15, 3, 42, 180, 0, 15, 3]
abbrev dktX3_set_0 : List UInt8 := dkwX3_set_0 ++ dktX3_set_1
theorem dksX3_set_0 : cX3_set.data.toList.drop 0 = dktX3_set_0 := by decide +kernel
theorem dksX3_set_1 : cX3_set.data.toList.drop 24 = dktX3_set_1 := dk_seg dksX3_set_0 24 rfl rfl
theorem dksX3_set_2 : cX3_set.data.toList.drop 47 = dktX3_set_2 := dk_seg dksX3_set_1 23 rfl rfl
theorem dX3_set_0 : decode cX3_set 0 = .ok (.aload_n 1, 1) := dk_43 (dk_at dksX3_set_0 0 rfl rfl)
theorem dX3_set_1 : decode cX3_set 1 = .ok (.getfield 9, 3) := dk_180 0 9 (dk_at dksX3_set_0 1 rfl rfl)
theorem dX3_set_4 : decode cX3_set 4 = .ok (.iconst 0, 1) := dk_3 (dk_at dksX3_set_0 4 rfl rfl)
theorem dX3_set_5 : decode cX3_set 5 = .ok (.aload_n 0, 1) := dk_42 (dk_at dksX3_set_0 5 rfl rfl)
theorem dX3_set_6 : decode cX3_set 6 = .ok (.getfield 9, 3) := dk_180 0 9 (dk_at dksX3_set_0 6 rfl rfl)
theorem dX3_set_9 : decode cX3_set 9 = .ok (.iconst 0, 1) := dk_3 (dk_at dksX3_set_0 9 rfl rfl)
theorem dX3_set_10 : decode cX3_set 10 = .ok (.iconst 2, 1) := dk_5 (dk_at dksX3_set_0 10 rfl rfl)
theorem dX3_set_11 : decode cX3_set 11 = .ok (.invokestatic 25, 3) := dk_184 0 25 (dk_at dksX3_set_0 11 rfl rfl)
theorem dX3_set_14 : decode cX3_set 14 = .ok (.aload_n 1, 1) := dk_43 (dk_at dksX3_set_0 14 rfl rfl)
theorem dX3_set_15 : decode cX3_set 15 = .ok (.getfield 15, 3) := dk_180 0 15 (dk_at dksX3_set_0 15 rfl rfl)
theorem dX3_set_18 : decode cX3_set 18 = .ok (.iconst 0, 1) := dk_3 (dk_at dksX3_set_0 18 rfl rfl)
theorem dX3_set_19 : decode cX3_set 19 = .ok (.aload_n 0, 1) := dk_42 (dk_at dksX3_set_0 19 rfl rfl)
theorem dX3_set_20 : decode cX3_set 20 = .ok (.getfield 15, 3) := dk_180 0 15 (dk_at dksX3_set_0 20 rfl rfl)
theorem dX3_set_23 : decode cX3_set 23 = .ok (.iconst 0, 1) := dk_3 (dk_at dksX3_set_0 23 rfl rfl)
theorem dX3_set_24 : decode cX3_set 24 = .ok (.iconst 2, 1) := dk_5 (dk_at dksX3_set_1 0 rfl rfl)
theorem dX3_set_25 : decode cX3_set 25 = .ok (.invokestatic 25, 3) := dk_184 0 25 (dk_at dksX3_set_1 1 rfl rfl)
theorem dX3_set_28 : decode cX3_set 28 = .ok (.aload_n 1, 1) := dk_43 (dk_at dksX3_set_1 4 rfl rfl)
theorem dX3_set_29 : decode cX3_set 29 = .ok (.getfield 18, 3) := dk_180 0 18 (dk_at dksX3_set_1 5 rfl rfl)
theorem dX3_set_32 : decode cX3_set 32 = .ok (.iconst 0, 1) := dk_3 (dk_at dksX3_set_1 8 rfl rfl)
theorem dX3_set_33 : decode cX3_set 33 = .ok (.aload_n 0, 1) := dk_42 (dk_at dksX3_set_1 9 rfl rfl)
theorem dX3_set_34 : decode cX3_set 34 = .ok (.getfield 18, 3) := dk_180 0 18 (dk_at dksX3_set_1 10 rfl rfl)
theorem dX3_set_37 : decode cX3_set 37 = .ok (.iconst 0, 1) := dk_3 (dk_at dksX3_set_1 13 rfl rfl)
theorem dX3_set_38 : decode cX3_set 38 = .ok (.iconst 2, 1) := dk_5 (dk_at dksX3_set_1 14 rfl rfl)
theorem dX3_set_39 : decode cX3_set 39 = .ok (.invokestatic 25, 3) := dk_184 0 25 (dk_at dksX3_set_1 15 rfl rfl)
theorem dX3_set_42 : decode cX3_set 42 = .ok (.aload_n 0, 1) := dk_42 (dk_at dksX3_set_1 18 rfl rfl)
theorem dX3_set_43 : decode cX3_set 43 = .ok (.aload_n 1, 1) := dk_43 (dk_at dksX3_set_1 19 rfl rfl)
theorem dX3_set_44 : decode cX3_set 44 = .ok (.getfield 31, 3) := dk_180 0 31 (dk_at dksX3_set_1 20 rfl rfl)
theorem dX3_set_47 : decode cX3_set 47 = .ok (.putfield 31, 3) := dk_181 0 31 (dk_at dksX3_set_2 0 rfl rfl)
theorem dX3_set_50 : decode cX3_set 50 = .ok (.return_, 1) := dk_177 (dk_at dksX3_set_2 3 rfl rfl)
abbrev cX3_points : ByteArray := prog_2_method_8_code
def yX3_points : MethodName := ⟨RX3, "points", "(I)I"⟩
def dkwX3_points_0 : List UInt8 := [42, 180, 0, 15, 27, 47, 184, 0, 58, 5, 42, 180, 0, 18, 27, 46, 104, 96, 172]
abbrev dktX3_points_0 : List UInt8 := dkwX3_points_0 ++ []
theorem dksX3_points_0 : cX3_points.data.toList.drop 0 = dktX3_points_0 := by decide +kernel
theorem dX3_points_0 : decode cX3_points 0 = .ok (.aload_n 0, 1) := dk_42 (dk_at dksX3_points_0 0 rfl rfl)
theorem dX3_points_1 : decode cX3_points 1 = .ok (.getfield 15, 3) := dk_180 0 15 (dk_at dksX3_points_0 1 rfl rfl)
theorem dX3_points_4 : decode cX3_points 4 = .ok (.iload_n 1, 1) := dk_27 (dk_at dksX3_points_0 4 rfl rfl)
theorem dX3_points_5 : decode cX3_points 5 = .ok (.laload, 1) := dk_47 (dk_at dksX3_points_0 5 rfl rfl)
theorem dX3_points_6 : decode cX3_points 6 = .ok (.invokestatic 58, 3) := dk_184 0 58 (dk_at dksX3_points_0 6 rfl rfl)
theorem dX3_points_9 : decode cX3_points 9 = .ok (.iconst 2, 1) := dk_5 (dk_at dksX3_points_0 9 rfl rfl)
theorem dX3_points_10 : decode cX3_points 10 = .ok (.aload_n 0, 1) := dk_42 (dk_at dksX3_points_0 10 rfl rfl)
theorem dX3_points_11 : decode cX3_points 11 = .ok (.getfield 18, 3) := dk_180 0 18 (dk_at dksX3_points_0 11 rfl rfl)
theorem dX3_points_14 : decode cX3_points 14 = .ok (.iload_n 1, 1) := dk_27 (dk_at dksX3_points_0 14 rfl rfl)
theorem dX3_points_15 : decode cX3_points 15 = .ok (.iaload, 1) := dk_46 (dk_at dksX3_points_0 15 rfl rfl)
theorem dX3_points_16 : decode cX3_points 16 = .ok (.imul, 1) := dk_104 (dk_at dksX3_points_0 16 rfl rfl)
theorem dX3_points_17 : decode cX3_points 17 = .ok (.iadd, 1) := dk_96 (dk_at dksX3_points_0 17 rfl rfl)
theorem dX3_points_18 : decode cX3_points 18 = .ok (.ireturn, 1) := dk_172 (dk_at dksX3_points_0 18 rfl rfl)
abbrev cX3_place : ByteArray := prog_2_method_11_code
def yX3_place : MethodName := ⟨RX3, "place", "(III)V"⟩
def dkwX3_place_5 : List UInt8 := [184, 0, 80, 167, 0, 4, 9, 129, 80, 177]
abbrev dktX3_place_5 : List UInt8 := dkwX3_place_5 ++ []
def dkwX3_place_4 : List UInt8 := [184, 0, 80, 167, 0, 4, 9, 129, 80, 42, 180, 0, 9, 4, 92, 47, 29, 5, 160, 0, 10, 27]
abbrev dktX3_place_4 : List UInt8 := dkwX3_place_4 ++ dktX3_place_5
def dkwX3_place_3 : List UInt8 := [184, 0, 80, 167, 0, 4, 9, 129, 181, 0, 31, 42, 180, 0, 9, 3, 92, 47, 29, 4, 160, 0, 10, 27]
abbrev dktX3_place_3 : List UInt8 := dkwX3_place_3 ++ dktX3_place_4
def dkwX3_place_2 : List UInt8 := [184, 0, 80, 129, 80, 167, 0, 74, 27, 2, 159, 0, 69, 42, 89, 180, 0, 31, 29, 8, 160, 0, 10, 27]
abbrev dktX3_place_2 : List UInt8 := dkwX3_place_2 ++ dktX3_place_3
def dkwX3_place_1 : List UInt8 := [184, 0, 80, 129, 80, 42, 180, 0, 9, 4, 92, 47, 28, 2, 160, 0, 7, 9, 167, 0, 7, 28]
abbrev dktX3_place_1 : List UInt8 := dkwX3_place_1 ++ dktX3_place_2
def dkwX3_place_0 : List UInt8 := [27, 28, 159, 0, 50, 42, 180, 0, 9, 3, 92, 47, 27, 2, 160, 0, 7, 9, 167, 0, 7, 27]
abbrev dktX3_place_0 : List UInt8 := dkwX3_place_0 ++ dktX3_place_1
theorem dksX3_place_0 : cX3_place.data.toList.drop 0 = dktX3_place_0 := by decide +kernel
theorem dksX3_place_1 : cX3_place.data.toList.drop 22 = dktX3_place_1 := dk_seg dksX3_place_0 22 rfl rfl
theorem dksX3_place_2 : cX3_place.data.toList.drop 44 = dktX3_place_2 := dk_seg dksX3_place_1 22 rfl rfl
theorem dksX3_place_3 : cX3_place.data.toList.drop 68 = dktX3_place_3 := dk_seg dksX3_place_2 24 rfl rfl
theorem dksX3_place_4 : cX3_place.data.toList.drop 92 = dktX3_place_4 := dk_seg dksX3_place_3 24 rfl rfl
theorem dksX3_place_5 : cX3_place.data.toList.drop 114 = dktX3_place_5 := dk_seg dksX3_place_4 22 rfl rfl
theorem dX3_place_0 : decode cX3_place 0 = .ok (.iload_n 1, 1) := dk_27 (dk_at dksX3_place_0 0 rfl rfl)
theorem dX3_place_1 : decode cX3_place 1 = .ok (.iload_n 2, 1) := dk_28 (dk_at dksX3_place_0 1 rfl rfl)
theorem dX3_place_2 : decode cX3_place 2 = .ok (.if_icmp .eq 50, 3) := dk_159 0 50 (dk_at dksX3_place_0 2 rfl rfl)
theorem dX3_place_5 : decode cX3_place 5 = .ok (.aload_n 0, 1) := dk_42 (dk_at dksX3_place_0 5 rfl rfl)
theorem dX3_place_6 : decode cX3_place 6 = .ok (.getfield 9, 3) := dk_180 0 9 (dk_at dksX3_place_0 6 rfl rfl)
theorem dX3_place_9 : decode cX3_place 9 = .ok (.iconst 0, 1) := dk_3 (dk_at dksX3_place_0 9 rfl rfl)
theorem dX3_place_10 : decode cX3_place 10 = .ok (.dup2, 1) := dk_92 (dk_at dksX3_place_0 10 rfl rfl)
theorem dX3_place_11 : decode cX3_place 11 = .ok (.laload, 1) := dk_47 (dk_at dksX3_place_0 11 rfl rfl)
theorem dX3_place_12 : decode cX3_place 12 = .ok (.iload_n 1, 1) := dk_27 (dk_at dksX3_place_0 12 rfl rfl)
theorem dX3_place_13 : decode cX3_place 13 = .ok (.iconst (-1), 1) := dk_2 (dk_at dksX3_place_0 13 rfl rfl)
theorem dX3_place_14 : decode cX3_place 14 = .ok (.if_icmp .ne 7, 3) := dk_160 0 7 (dk_at dksX3_place_0 14 rfl rfl)
theorem dX3_place_17 : decode cX3_place 17 = .ok (.lconst 0, 1) := dk_9 (dk_at dksX3_place_0 17 rfl rfl)
theorem dX3_place_18 : decode cX3_place 18 = .ok (.goto 7, 3) := dk_167 0 7 (dk_at dksX3_place_0 18 rfl rfl)
theorem dX3_place_21 : decode cX3_place 21 = .ok (.iload_n 1, 1) := dk_27 (dk_at dksX3_place_0 21 rfl rfl)
theorem dX3_place_22 : decode cX3_place 22 = .ok (.invokestatic 80, 3) := dk_184 0 80 (dk_at dksX3_place_1 0 rfl rfl)
theorem dX3_place_25 : decode cX3_place 25 = .ok (.lor, 1) := dk_129 (dk_at dksX3_place_1 3 rfl rfl)
theorem dX3_place_26 : decode cX3_place 26 = .ok (.lastore, 1) := dk_80 (dk_at dksX3_place_1 4 rfl rfl)
theorem dX3_place_27 : decode cX3_place 27 = .ok (.aload_n 0, 1) := dk_42 (dk_at dksX3_place_1 5 rfl rfl)
theorem dX3_place_28 : decode cX3_place 28 = .ok (.getfield 9, 3) := dk_180 0 9 (dk_at dksX3_place_1 6 rfl rfl)
theorem dX3_place_31 : decode cX3_place 31 = .ok (.iconst 1, 1) := dk_4 (dk_at dksX3_place_1 9 rfl rfl)
theorem dX3_place_32 : decode cX3_place 32 = .ok (.dup2, 1) := dk_92 (dk_at dksX3_place_1 10 rfl rfl)
theorem dX3_place_33 : decode cX3_place 33 = .ok (.laload, 1) := dk_47 (dk_at dksX3_place_1 11 rfl rfl)
theorem dX3_place_34 : decode cX3_place 34 = .ok (.iload_n 2, 1) := dk_28 (dk_at dksX3_place_1 12 rfl rfl)
theorem dX3_place_35 : decode cX3_place 35 = .ok (.iconst (-1), 1) := dk_2 (dk_at dksX3_place_1 13 rfl rfl)
theorem dX3_place_36 : decode cX3_place 36 = .ok (.if_icmp .ne 7, 3) := dk_160 0 7 (dk_at dksX3_place_1 14 rfl rfl)
theorem dX3_place_39 : decode cX3_place 39 = .ok (.lconst 0, 1) := dk_9 (dk_at dksX3_place_1 17 rfl rfl)
theorem dX3_place_40 : decode cX3_place 40 = .ok (.goto 7, 3) := dk_167 0 7 (dk_at dksX3_place_1 18 rfl rfl)
theorem dX3_place_43 : decode cX3_place 43 = .ok (.iload_n 2, 1) := dk_28 (dk_at dksX3_place_1 21 rfl rfl)
theorem dX3_place_44 : decode cX3_place 44 = .ok (.invokestatic 80, 3) := dk_184 0 80 (dk_at dksX3_place_2 0 rfl rfl)
theorem dX3_place_47 : decode cX3_place 47 = .ok (.lor, 1) := dk_129 (dk_at dksX3_place_2 3 rfl rfl)
theorem dX3_place_48 : decode cX3_place 48 = .ok (.lastore, 1) := dk_80 (dk_at dksX3_place_2 4 rfl rfl)
theorem dX3_place_49 : decode cX3_place 49 = .ok (.goto 74, 3) := dk_167 0 74 (dk_at dksX3_place_2 5 rfl rfl)
theorem dX3_place_52 : decode cX3_place 52 = .ok (.iload_n 1, 1) := dk_27 (dk_at dksX3_place_2 8 rfl rfl)
theorem dX3_place_53 : decode cX3_place 53 = .ok (.iconst (-1), 1) := dk_2 (dk_at dksX3_place_2 9 rfl rfl)
theorem dX3_place_54 : decode cX3_place 54 = .ok (.if_icmp .eq 69, 3) := dk_159 0 69 (dk_at dksX3_place_2 10 rfl rfl)
theorem dX3_place_57 : decode cX3_place 57 = .ok (.aload_n 0, 1) := dk_42 (dk_at dksX3_place_2 13 rfl rfl)
theorem dX3_place_58 : decode cX3_place 58 = .ok (.dup, 1) := dk_89 (dk_at dksX3_place_2 14 rfl rfl)
theorem dX3_place_59 : decode cX3_place 59 = .ok (.getfield 31, 3) := dk_180 0 31 (dk_at dksX3_place_2 15 rfl rfl)
theorem dX3_place_62 : decode cX3_place 62 = .ok (.iload_n 3, 1) := dk_29 (dk_at dksX3_place_2 18 rfl rfl)
theorem dX3_place_63 : decode cX3_place 63 = .ok (.iconst 5, 1) := dk_8 (dk_at dksX3_place_2 19 rfl rfl)
theorem dX3_place_64 : decode cX3_place 64 = .ok (.if_icmp .ne 10, 3) := dk_160 0 10 (dk_at dksX3_place_2 20 rfl rfl)
theorem dX3_place_67 : decode cX3_place 67 = .ok (.iload_n 1, 1) := dk_27 (dk_at dksX3_place_2 23 rfl rfl)
theorem dX3_place_68 : decode cX3_place 68 = .ok (.invokestatic 80, 3) := dk_184 0 80 (dk_at dksX3_place_3 0 rfl rfl)
theorem dX3_place_71 : decode cX3_place 71 = .ok (.goto 4, 3) := dk_167 0 4 (dk_at dksX3_place_3 3 rfl rfl)
theorem dX3_place_74 : decode cX3_place 74 = .ok (.lconst 0, 1) := dk_9 (dk_at dksX3_place_3 6 rfl rfl)
theorem dX3_place_75 : decode cX3_place 75 = .ok (.lor, 1) := dk_129 (dk_at dksX3_place_3 7 rfl rfl)
theorem dX3_place_76 : decode cX3_place 76 = .ok (.putfield 31, 3) := dk_181 0 31 (dk_at dksX3_place_3 8 rfl rfl)
theorem dX3_place_79 : decode cX3_place 79 = .ok (.aload_n 0, 1) := dk_42 (dk_at dksX3_place_3 11 rfl rfl)
theorem dX3_place_80 : decode cX3_place 80 = .ok (.getfield 9, 3) := dk_180 0 9 (dk_at dksX3_place_3 12 rfl rfl)
theorem dX3_place_83 : decode cX3_place 83 = .ok (.iconst 0, 1) := dk_3 (dk_at dksX3_place_3 15 rfl rfl)
theorem dX3_place_84 : decode cX3_place 84 = .ok (.dup2, 1) := dk_92 (dk_at dksX3_place_3 16 rfl rfl)
theorem dX3_place_85 : decode cX3_place 85 = .ok (.laload, 1) := dk_47 (dk_at dksX3_place_3 17 rfl rfl)
theorem dX3_place_86 : decode cX3_place 86 = .ok (.iload_n 3, 1) := dk_29 (dk_at dksX3_place_3 18 rfl rfl)
theorem dX3_place_87 : decode cX3_place 87 = .ok (.iconst 1, 1) := dk_4 (dk_at dksX3_place_3 19 rfl rfl)
theorem dX3_place_88 : decode cX3_place 88 = .ok (.if_icmp .ne 10, 3) := dk_160 0 10 (dk_at dksX3_place_3 20 rfl rfl)
theorem dX3_place_91 : decode cX3_place 91 = .ok (.iload_n 1, 1) := dk_27 (dk_at dksX3_place_3 23 rfl rfl)
theorem dX3_place_92 : decode cX3_place 92 = .ok (.invokestatic 80, 3) := dk_184 0 80 (dk_at dksX3_place_4 0 rfl rfl)
theorem dX3_place_95 : decode cX3_place 95 = .ok (.goto 4, 3) := dk_167 0 4 (dk_at dksX3_place_4 3 rfl rfl)
theorem dX3_place_98 : decode cX3_place 98 = .ok (.lconst 0, 1) := dk_9 (dk_at dksX3_place_4 6 rfl rfl)
theorem dX3_place_99 : decode cX3_place 99 = .ok (.lor, 1) := dk_129 (dk_at dksX3_place_4 7 rfl rfl)
theorem dX3_place_100 : decode cX3_place 100 = .ok (.lastore, 1) := dk_80 (dk_at dksX3_place_4 8 rfl rfl)
theorem dX3_place_101 : decode cX3_place 101 = .ok (.aload_n 0, 1) := dk_42 (dk_at dksX3_place_4 9 rfl rfl)
theorem dX3_place_102 : decode cX3_place 102 = .ok (.getfield 9, 3) := dk_180 0 9 (dk_at dksX3_place_4 10 rfl rfl)
theorem dX3_place_105 : decode cX3_place 105 = .ok (.iconst 1, 1) := dk_4 (dk_at dksX3_place_4 13 rfl rfl)
theorem dX3_place_106 : decode cX3_place 106 = .ok (.dup2, 1) := dk_92 (dk_at dksX3_place_4 14 rfl rfl)
theorem dX3_place_107 : decode cX3_place 107 = .ok (.laload, 1) := dk_47 (dk_at dksX3_place_4 15 rfl rfl)
theorem dX3_place_108 : decode cX3_place 108 = .ok (.iload_n 3, 1) := dk_29 (dk_at dksX3_place_4 16 rfl rfl)
theorem dX3_place_109 : decode cX3_place 109 = .ok (.iconst 2, 1) := dk_5 (dk_at dksX3_place_4 17 rfl rfl)
theorem dX3_place_110 : decode cX3_place 110 = .ok (.if_icmp .ne 10, 3) := dk_160 0 10 (dk_at dksX3_place_4 18 rfl rfl)
theorem dX3_place_113 : decode cX3_place 113 = .ok (.iload_n 1, 1) := dk_27 (dk_at dksX3_place_4 21 rfl rfl)
theorem dX3_place_114 : decode cX3_place 114 = .ok (.invokestatic 80, 3) := dk_184 0 80 (dk_at dksX3_place_5 0 rfl rfl)
theorem dX3_place_117 : decode cX3_place 117 = .ok (.goto 4, 3) := dk_167 0 4 (dk_at dksX3_place_5 3 rfl rfl)
theorem dX3_place_120 : decode cX3_place 120 = .ok (.lconst 0, 1) := dk_9 (dk_at dksX3_place_5 6 rfl rfl)
theorem dX3_place_121 : decode cX3_place 121 = .ok (.lor, 1) := dk_129 (dk_at dksX3_place_5 7 rfl rfl)
theorem dX3_place_122 : decode cX3_place 122 = .ok (.lastore, 1) := dk_80 (dk_at dksX3_place_5 8 rfl rfl)
theorem dX3_place_123 : decode cX3_place 123 = .ok (.return_, 1) := dk_177 (dk_at dksX3_place_5 9 rfl rfl)
abbrev cX3_wave : ByteArray := prog_2_method_10_code
def yX3_wave : MethodName := ⟨RX3, "wave", "(LEnclosureReferee$Shape;)I"⟩
def dkwX3_wave_10 : List UInt8 := [42, 180, 0, 22, 4, 47, 184, 0, 58, 96, 172]
abbrev dktX3_wave_10 : List UInt8 := dkwX3_wave_10 ++ []
def dkwX3_wave_9 : List UInt8 := [47, 42, 180, 0, 22, 28, 47, 129, 80, 132, 2, 1, 167, 255, 166, 42, 180, 0, 22, 3, 47, 184, 0, 58]
abbrev dktX3_wave_9 : List UInt8 := dkwX3_wave_9 ++ dktX3_wave_10
def dkwX3_wave_8 : List UInt8 := [180, 0, 15, 29, 92, 47, 42, 180, 0, 22, 28, 47, 20, 0, 44, 131, 127, 80, 42, 180, 0, 15, 28, 92]
abbrev dktX3_wave_8 : List UInt8 := dkwX3_wave_8 ++ dktX3_wave_9
def dkwX3_wave_7 : List UInt8 := [96, 79, 42, 180, 0, 9, 29, 92, 47, 42, 180, 0, 22, 28, 47, 20, 0, 44, 131, 127, 80, 42]
abbrev dktX3_wave_7 : List UInt8 := dkwX3_wave_7 ++ dktX3_wave_8
def dkwX3_wave_6 : List UInt8 := [62, 42, 180, 0, 18, 28, 92, 46, 42, 180, 0, 22, 28, 47, 42, 180, 0, 9, 29, 47, 127, 184, 0, 58]
abbrev dktX3_wave_6 : List UInt8 := dkwX3_wave_6 ++ dktX3_wave_7
def dkwX3_wave_5 : List UInt8 := [28, 47, 20, 0, 44, 131, 127, 80, 132, 2, 1, 167, 255, 229, 3, 61, 28, 5, 162, 0, 91, 4, 28, 100]
abbrev dktX3_wave_5 : List UInt8 := dkwX3_wave_5 ++ dktX3_wave_6
def dkwX3_wave_4 : List UInt8 := [132, 2, 1, 167, 255, 176, 3, 61, 28, 5, 162, 0, 28, 42, 180, 0, 22, 28, 92, 47, 42, 180, 0, 15]
abbrev dktX3_wave_4 : List UInt8 := dkwX3_wave_4 ++ dktX3_wave_5
def dkwX3_wave_3 : List UInt8 := [180, 0, 22, 4, 92, 47, 21, 4, 29, 164, 0, 10, 28, 184, 0, 80, 167, 0, 4, 9, 129, 80]
abbrev dktX3_wave_3 : List UInt8 := dkwX3_wave_3 ++ dktX3_wave_4
def dkwX3_wave_2 : List UInt8 := [180, 0, 22, 3, 92, 47, 29, 21, 4, 164, 0, 10, 28, 184, 0, 80, 167, 0, 4, 9, 129, 80, 42]
abbrev dktX3_wave_2 : List UInt8 := dkwX3_wave_2 ++ dktX3_wave_3
def dkwX3_wave_1 : List UInt8 := [42, 43, 3, 28, 182, 0, 76, 184, 0, 58, 62, 42, 43, 4, 28, 182, 0, 76, 184, 0, 58, 54, 4, 42]
abbrev dktX3_wave_1 : List UInt8 := dkwX3_wave_1 ++ dktX3_wave_2
def dkwX3_wave_0 : List UInt8 := [42, 180, 0, 22, 3, 9, 80, 42, 180, 0, 22, 4, 9, 80, 3, 61, 28, 43, 182, 0, 73, 162, 0, 78]
abbrev dktX3_wave_0 : List UInt8 := dkwX3_wave_0 ++ dktX3_wave_1
theorem dksX3_wave_0 : cX3_wave.data.toList.drop 0 = dktX3_wave_0 := by decide +kernel
theorem dksX3_wave_1 : cX3_wave.data.toList.drop 24 = dktX3_wave_1 := dk_seg dksX3_wave_0 24 rfl rfl
theorem dksX3_wave_2 : cX3_wave.data.toList.drop 48 = dktX3_wave_2 := dk_seg dksX3_wave_1 24 rfl rfl
theorem dksX3_wave_3 : cX3_wave.data.toList.drop 71 = dktX3_wave_3 := dk_seg dksX3_wave_2 23 rfl rfl
theorem dksX3_wave_4 : cX3_wave.data.toList.drop 93 = dktX3_wave_4 := dk_seg dksX3_wave_3 22 rfl rfl
theorem dksX3_wave_5 : cX3_wave.data.toList.drop 117 = dktX3_wave_5 := dk_seg dksX3_wave_4 24 rfl rfl
theorem dksX3_wave_6 : cX3_wave.data.toList.drop 141 = dktX3_wave_6 := dk_seg dksX3_wave_5 24 rfl rfl
theorem dksX3_wave_7 : cX3_wave.data.toList.drop 165 = dktX3_wave_7 := dk_seg dksX3_wave_6 24 rfl rfl
theorem dksX3_wave_8 : cX3_wave.data.toList.drop 187 = dktX3_wave_8 := dk_seg dksX3_wave_7 22 rfl rfl
theorem dksX3_wave_9 : cX3_wave.data.toList.drop 211 = dktX3_wave_9 := dk_seg dksX3_wave_8 24 rfl rfl
theorem dksX3_wave_10 : cX3_wave.data.toList.drop 235 = dktX3_wave_10 := dk_seg dksX3_wave_9 24 rfl rfl
theorem dX3_wave_0 : decode cX3_wave 0 = .ok (.aload_n 0, 1) := dk_42 (dk_at dksX3_wave_0 0 rfl rfl)
theorem dX3_wave_1 : decode cX3_wave 1 = .ok (.getfield 22, 3) := dk_180 0 22 (dk_at dksX3_wave_0 1 rfl rfl)
theorem dX3_wave_4 : decode cX3_wave 4 = .ok (.iconst 0, 1) := dk_3 (dk_at dksX3_wave_0 4 rfl rfl)
theorem dX3_wave_5 : decode cX3_wave 5 = .ok (.lconst 0, 1) := dk_9 (dk_at dksX3_wave_0 5 rfl rfl)
theorem dX3_wave_6 : decode cX3_wave 6 = .ok (.lastore, 1) := dk_80 (dk_at dksX3_wave_0 6 rfl rfl)
theorem dX3_wave_7 : decode cX3_wave 7 = .ok (.aload_n 0, 1) := dk_42 (dk_at dksX3_wave_0 7 rfl rfl)
theorem dX3_wave_8 : decode cX3_wave 8 = .ok (.getfield 22, 3) := dk_180 0 22 (dk_at dksX3_wave_0 8 rfl rfl)
theorem dX3_wave_11 : decode cX3_wave 11 = .ok (.iconst 1, 1) := dk_4 (dk_at dksX3_wave_0 11 rfl rfl)
theorem dX3_wave_12 : decode cX3_wave 12 = .ok (.lconst 0, 1) := dk_9 (dk_at dksX3_wave_0 12 rfl rfl)
theorem dX3_wave_13 : decode cX3_wave 13 = .ok (.lastore, 1) := dk_80 (dk_at dksX3_wave_0 13 rfl rfl)
theorem dX3_wave_14 : decode cX3_wave 14 = .ok (.iconst 0, 1) := dk_3 (dk_at dksX3_wave_0 14 rfl rfl)
theorem dX3_wave_15 : decode cX3_wave 15 = .ok (.istore_n 2, 1) := dk_61 (dk_at dksX3_wave_0 15 rfl rfl)
theorem dX3_wave_16 : decode cX3_wave 16 = .ok (.iload_n 2, 1) := dk_28 (dk_at dksX3_wave_0 16 rfl rfl)
theorem dX3_wave_17 : decode cX3_wave 17 = .ok (.aload_n 1, 1) := dk_43 (dk_at dksX3_wave_0 17 rfl rfl)
theorem dX3_wave_18 : decode cX3_wave 18 = .ok (.invokevirtual 73, 3) := dk_182 0 73 (dk_at dksX3_wave_0 18 rfl rfl)
theorem dX3_wave_21 : decode cX3_wave 21 = .ok (.if_icmp .ge 78, 3) := dk_162 0 78 (dk_at dksX3_wave_0 21 rfl rfl)
theorem dX3_wave_24 : decode cX3_wave 24 = .ok (.aload_n 0, 1) := dk_42 (dk_at dksX3_wave_1 0 rfl rfl)
theorem dX3_wave_25 : decode cX3_wave 25 = .ok (.aload_n 1, 1) := dk_43 (dk_at dksX3_wave_1 1 rfl rfl)
theorem dX3_wave_26 : decode cX3_wave 26 = .ok (.iconst 0, 1) := dk_3 (dk_at dksX3_wave_1 2 rfl rfl)
theorem dX3_wave_27 : decode cX3_wave 27 = .ok (.iload_n 2, 1) := dk_28 (dk_at dksX3_wave_1 3 rfl rfl)
theorem dX3_wave_28 : decode cX3_wave 28 = .ok (.invokevirtual 76, 3) := dk_182 0 76 (dk_at dksX3_wave_1 4 rfl rfl)
theorem dX3_wave_31 : decode cX3_wave 31 = .ok (.invokestatic 58, 3) := dk_184 0 58 (dk_at dksX3_wave_1 7 rfl rfl)
theorem dX3_wave_34 : decode cX3_wave 34 = .ok (.istore_n 3, 1) := dk_62 (dk_at dksX3_wave_1 10 rfl rfl)
theorem dX3_wave_35 : decode cX3_wave 35 = .ok (.aload_n 0, 1) := dk_42 (dk_at dksX3_wave_1 11 rfl rfl)
theorem dX3_wave_36 : decode cX3_wave 36 = .ok (.aload_n 1, 1) := dk_43 (dk_at dksX3_wave_1 12 rfl rfl)
theorem dX3_wave_37 : decode cX3_wave 37 = .ok (.iconst 1, 1) := dk_4 (dk_at dksX3_wave_1 13 rfl rfl)
theorem dX3_wave_38 : decode cX3_wave 38 = .ok (.iload_n 2, 1) := dk_28 (dk_at dksX3_wave_1 14 rfl rfl)
theorem dX3_wave_39 : decode cX3_wave 39 = .ok (.invokevirtual 76, 3) := dk_182 0 76 (dk_at dksX3_wave_1 15 rfl rfl)
theorem dX3_wave_42 : decode cX3_wave 42 = .ok (.invokestatic 58, 3) := dk_184 0 58 (dk_at dksX3_wave_1 18 rfl rfl)
theorem dX3_wave_45 : decode cX3_wave 45 = .ok (.istore 4, 2) := dk_54 4 (dk_at dksX3_wave_1 21 rfl rfl)
theorem dX3_wave_47 : decode cX3_wave 47 = .ok (.aload_n 0, 1) := dk_42 (dk_at dksX3_wave_1 23 rfl rfl)
theorem dX3_wave_48 : decode cX3_wave 48 = .ok (.getfield 22, 3) := dk_180 0 22 (dk_at dksX3_wave_2 0 rfl rfl)
theorem dX3_wave_51 : decode cX3_wave 51 = .ok (.iconst 0, 1) := dk_3 (dk_at dksX3_wave_2 3 rfl rfl)
theorem dX3_wave_52 : decode cX3_wave 52 = .ok (.dup2, 1) := dk_92 (dk_at dksX3_wave_2 4 rfl rfl)
theorem dX3_wave_53 : decode cX3_wave 53 = .ok (.laload, 1) := dk_47 (dk_at dksX3_wave_2 5 rfl rfl)
theorem dX3_wave_54 : decode cX3_wave 54 = .ok (.iload_n 3, 1) := dk_29 (dk_at dksX3_wave_2 6 rfl rfl)
theorem dX3_wave_55 : decode cX3_wave 55 = .ok (.iload 4, 2) := dk_21 4 (dk_at dksX3_wave_2 7 rfl rfl)
theorem dX3_wave_57 : decode cX3_wave 57 = .ok (.if_icmp .le 10, 3) := dk_164 0 10 (dk_at dksX3_wave_2 9 rfl rfl)
theorem dX3_wave_60 : decode cX3_wave 60 = .ok (.iload_n 2, 1) := dk_28 (dk_at dksX3_wave_2 12 rfl rfl)
theorem dX3_wave_61 : decode cX3_wave 61 = .ok (.invokestatic 80, 3) := dk_184 0 80 (dk_at dksX3_wave_2 13 rfl rfl)
theorem dX3_wave_64 : decode cX3_wave 64 = .ok (.goto 4, 3) := dk_167 0 4 (dk_at dksX3_wave_2 16 rfl rfl)
theorem dX3_wave_67 : decode cX3_wave 67 = .ok (.lconst 0, 1) := dk_9 (dk_at dksX3_wave_2 19 rfl rfl)
theorem dX3_wave_68 : decode cX3_wave 68 = .ok (.lor, 1) := dk_129 (dk_at dksX3_wave_2 20 rfl rfl)
theorem dX3_wave_69 : decode cX3_wave 69 = .ok (.lastore, 1) := dk_80 (dk_at dksX3_wave_2 21 rfl rfl)
theorem dX3_wave_70 : decode cX3_wave 70 = .ok (.aload_n 0, 1) := dk_42 (dk_at dksX3_wave_2 22 rfl rfl)
theorem dX3_wave_71 : decode cX3_wave 71 = .ok (.getfield 22, 3) := dk_180 0 22 (dk_at dksX3_wave_3 0 rfl rfl)
theorem dX3_wave_74 : decode cX3_wave 74 = .ok (.iconst 1, 1) := dk_4 (dk_at dksX3_wave_3 3 rfl rfl)
theorem dX3_wave_75 : decode cX3_wave 75 = .ok (.dup2, 1) := dk_92 (dk_at dksX3_wave_3 4 rfl rfl)
theorem dX3_wave_76 : decode cX3_wave 76 = .ok (.laload, 1) := dk_47 (dk_at dksX3_wave_3 5 rfl rfl)
theorem dX3_wave_77 : decode cX3_wave 77 = .ok (.iload 4, 2) := dk_21 4 (dk_at dksX3_wave_3 6 rfl rfl)
theorem dX3_wave_79 : decode cX3_wave 79 = .ok (.iload_n 3, 1) := dk_29 (dk_at dksX3_wave_3 8 rfl rfl)
theorem dX3_wave_80 : decode cX3_wave 80 = .ok (.if_icmp .le 10, 3) := dk_164 0 10 (dk_at dksX3_wave_3 9 rfl rfl)
theorem dX3_wave_83 : decode cX3_wave 83 = .ok (.iload_n 2, 1) := dk_28 (dk_at dksX3_wave_3 12 rfl rfl)
theorem dX3_wave_84 : decode cX3_wave 84 = .ok (.invokestatic 80, 3) := dk_184 0 80 (dk_at dksX3_wave_3 13 rfl rfl)
theorem dX3_wave_87 : decode cX3_wave 87 = .ok (.goto 4, 3) := dk_167 0 4 (dk_at dksX3_wave_3 16 rfl rfl)
theorem dX3_wave_90 : decode cX3_wave 90 = .ok (.lconst 0, 1) := dk_9 (dk_at dksX3_wave_3 19 rfl rfl)
theorem dX3_wave_91 : decode cX3_wave 91 = .ok (.lor, 1) := dk_129 (dk_at dksX3_wave_3 20 rfl rfl)
theorem dX3_wave_92 : decode cX3_wave 92 = .ok (.lastore, 1) := dk_80 (dk_at dksX3_wave_3 21 rfl rfl)
theorem dX3_wave_93 : decode cX3_wave 93 = .ok (.iinc 2 1, 3) := dk_132 2 1 (dk_at dksX3_wave_4 0 rfl rfl)
theorem dX3_wave_96 : decode cX3_wave 96 = .ok (.goto (-80), 3) := dk_167 255 176 (dk_at dksX3_wave_4 3 rfl rfl)
theorem dX3_wave_99 : decode cX3_wave 99 = .ok (.iconst 0, 1) := dk_3 (dk_at dksX3_wave_4 6 rfl rfl)
theorem dX3_wave_100 : decode cX3_wave 100 = .ok (.istore_n 2, 1) := dk_61 (dk_at dksX3_wave_4 7 rfl rfl)
theorem dX3_wave_101 : decode cX3_wave 101 = .ok (.iload_n 2, 1) := dk_28 (dk_at dksX3_wave_4 8 rfl rfl)
theorem dX3_wave_102 : decode cX3_wave 102 = .ok (.iconst 2, 1) := dk_5 (dk_at dksX3_wave_4 9 rfl rfl)
theorem dX3_wave_103 : decode cX3_wave 103 = .ok (.if_icmp .ge 28, 3) := dk_162 0 28 (dk_at dksX3_wave_4 10 rfl rfl)
theorem dX3_wave_106 : decode cX3_wave 106 = .ok (.aload_n 0, 1) := dk_42 (dk_at dksX3_wave_4 13 rfl rfl)
theorem dX3_wave_107 : decode cX3_wave 107 = .ok (.getfield 22, 3) := dk_180 0 22 (dk_at dksX3_wave_4 14 rfl rfl)
theorem dX3_wave_110 : decode cX3_wave 110 = .ok (.iload_n 2, 1) := dk_28 (dk_at dksX3_wave_4 17 rfl rfl)
theorem dX3_wave_111 : decode cX3_wave 111 = .ok (.dup2, 1) := dk_92 (dk_at dksX3_wave_4 18 rfl rfl)
theorem dX3_wave_112 : decode cX3_wave 112 = .ok (.laload, 1) := dk_47 (dk_at dksX3_wave_4 19 rfl rfl)
theorem dX3_wave_113 : decode cX3_wave 113 = .ok (.aload_n 0, 1) := dk_42 (dk_at dksX3_wave_4 20 rfl rfl)
theorem dX3_wave_114 : decode cX3_wave 114 = .ok (.getfield 15, 3) := dk_180 0 15 (dk_at dksX3_wave_4 21 rfl rfl)
theorem dX3_wave_117 : decode cX3_wave 117 = .ok (.iload_n 2, 1) := dk_28 (dk_at dksX3_wave_5 0 rfl rfl)
theorem dX3_wave_118 : decode cX3_wave 118 = .ok (.laload, 1) := dk_47 (dk_at dksX3_wave_5 1 rfl rfl)
theorem dX3_wave_119 : decode cX3_wave 119 = .ok (.ldc2_w 44, 3) := dk_20 0 44 (dk_at dksX3_wave_5 2 rfl rfl)
theorem dX3_wave_122 : decode cX3_wave 122 = .ok (.lxor, 1) := dk_131 (dk_at dksX3_wave_5 5 rfl rfl)
theorem dX3_wave_123 : decode cX3_wave 123 = .ok (.land, 1) := dk_127 (dk_at dksX3_wave_5 6 rfl rfl)
theorem dX3_wave_124 : decode cX3_wave 124 = .ok (.lastore, 1) := dk_80 (dk_at dksX3_wave_5 7 rfl rfl)
theorem dX3_wave_125 : decode cX3_wave 125 = .ok (.iinc 2 1, 3) := dk_132 2 1 (dk_at dksX3_wave_5 8 rfl rfl)
theorem dX3_wave_128 : decode cX3_wave 128 = .ok (.goto (-27), 3) := dk_167 255 229 (dk_at dksX3_wave_5 11 rfl rfl)
theorem dX3_wave_131 : decode cX3_wave 131 = .ok (.iconst 0, 1) := dk_3 (dk_at dksX3_wave_5 14 rfl rfl)
theorem dX3_wave_132 : decode cX3_wave 132 = .ok (.istore_n 2, 1) := dk_61 (dk_at dksX3_wave_5 15 rfl rfl)
theorem dX3_wave_133 : decode cX3_wave 133 = .ok (.iload_n 2, 1) := dk_28 (dk_at dksX3_wave_5 16 rfl rfl)
theorem dX3_wave_134 : decode cX3_wave 134 = .ok (.iconst 2, 1) := dk_5 (dk_at dksX3_wave_5 17 rfl rfl)
theorem dX3_wave_135 : decode cX3_wave 135 = .ok (.if_icmp .ge 91, 3) := dk_162 0 91 (dk_at dksX3_wave_5 18 rfl rfl)
theorem dX3_wave_138 : decode cX3_wave 138 = .ok (.iconst 1, 1) := dk_4 (dk_at dksX3_wave_5 21 rfl rfl)
theorem dX3_wave_139 : decode cX3_wave 139 = .ok (.iload_n 2, 1) := dk_28 (dk_at dksX3_wave_5 22 rfl rfl)
theorem dX3_wave_140 : decode cX3_wave 140 = .ok (.isub, 1) := dk_100 (dk_at dksX3_wave_5 23 rfl rfl)
theorem dX3_wave_141 : decode cX3_wave 141 = .ok (.istore_n 3, 1) := dk_62 (dk_at dksX3_wave_6 0 rfl rfl)
theorem dX3_wave_142 : decode cX3_wave 142 = .ok (.aload_n 0, 1) := dk_42 (dk_at dksX3_wave_6 1 rfl rfl)
theorem dX3_wave_143 : decode cX3_wave 143 = .ok (.getfield 18, 3) := dk_180 0 18 (dk_at dksX3_wave_6 2 rfl rfl)
theorem dX3_wave_146 : decode cX3_wave 146 = .ok (.iload_n 2, 1) := dk_28 (dk_at dksX3_wave_6 5 rfl rfl)
theorem dX3_wave_147 : decode cX3_wave 147 = .ok (.dup2, 1) := dk_92 (dk_at dksX3_wave_6 6 rfl rfl)
theorem dX3_wave_148 : decode cX3_wave 148 = .ok (.iaload, 1) := dk_46 (dk_at dksX3_wave_6 7 rfl rfl)
theorem dX3_wave_149 : decode cX3_wave 149 = .ok (.aload_n 0, 1) := dk_42 (dk_at dksX3_wave_6 8 rfl rfl)
theorem dX3_wave_150 : decode cX3_wave 150 = .ok (.getfield 22, 3) := dk_180 0 22 (dk_at dksX3_wave_6 9 rfl rfl)
theorem dX3_wave_153 : decode cX3_wave 153 = .ok (.iload_n 2, 1) := dk_28 (dk_at dksX3_wave_6 12 rfl rfl)
theorem dX3_wave_154 : decode cX3_wave 154 = .ok (.laload, 1) := dk_47 (dk_at dksX3_wave_6 13 rfl rfl)
theorem dX3_wave_155 : decode cX3_wave 155 = .ok (.aload_n 0, 1) := dk_42 (dk_at dksX3_wave_6 14 rfl rfl)
theorem dX3_wave_156 : decode cX3_wave 156 = .ok (.getfield 9, 3) := dk_180 0 9 (dk_at dksX3_wave_6 15 rfl rfl)
theorem dX3_wave_159 : decode cX3_wave 159 = .ok (.iload_n 3, 1) := dk_29 (dk_at dksX3_wave_6 18 rfl rfl)
theorem dX3_wave_160 : decode cX3_wave 160 = .ok (.laload, 1) := dk_47 (dk_at dksX3_wave_6 19 rfl rfl)
theorem dX3_wave_161 : decode cX3_wave 161 = .ok (.land, 1) := dk_127 (dk_at dksX3_wave_6 20 rfl rfl)
theorem dX3_wave_162 : decode cX3_wave 162 = .ok (.invokestatic 58, 3) := dk_184 0 58 (dk_at dksX3_wave_6 21 rfl rfl)
theorem dX3_wave_165 : decode cX3_wave 165 = .ok (.iadd, 1) := dk_96 (dk_at dksX3_wave_7 0 rfl rfl)
theorem dX3_wave_166 : decode cX3_wave 166 = .ok (.iastore, 1) := dk_79 (dk_at dksX3_wave_7 1 rfl rfl)
theorem dX3_wave_167 : decode cX3_wave 167 = .ok (.aload_n 0, 1) := dk_42 (dk_at dksX3_wave_7 2 rfl rfl)
theorem dX3_wave_168 : decode cX3_wave 168 = .ok (.getfield 9, 3) := dk_180 0 9 (dk_at dksX3_wave_7 3 rfl rfl)
theorem dX3_wave_171 : decode cX3_wave 171 = .ok (.iload_n 3, 1) := dk_29 (dk_at dksX3_wave_7 6 rfl rfl)
theorem dX3_wave_172 : decode cX3_wave 172 = .ok (.dup2, 1) := dk_92 (dk_at dksX3_wave_7 7 rfl rfl)
theorem dX3_wave_173 : decode cX3_wave 173 = .ok (.laload, 1) := dk_47 (dk_at dksX3_wave_7 8 rfl rfl)
theorem dX3_wave_174 : decode cX3_wave 174 = .ok (.aload_n 0, 1) := dk_42 (dk_at dksX3_wave_7 9 rfl rfl)
theorem dX3_wave_175 : decode cX3_wave 175 = .ok (.getfield 22, 3) := dk_180 0 22 (dk_at dksX3_wave_7 10 rfl rfl)
theorem dX3_wave_178 : decode cX3_wave 178 = .ok (.iload_n 2, 1) := dk_28 (dk_at dksX3_wave_7 13 rfl rfl)
theorem dX3_wave_179 : decode cX3_wave 179 = .ok (.laload, 1) := dk_47 (dk_at dksX3_wave_7 14 rfl rfl)
theorem dX3_wave_180 : decode cX3_wave 180 = .ok (.ldc2_w 44, 3) := dk_20 0 44 (dk_at dksX3_wave_7 15 rfl rfl)
theorem dX3_wave_183 : decode cX3_wave 183 = .ok (.lxor, 1) := dk_131 (dk_at dksX3_wave_7 18 rfl rfl)
theorem dX3_wave_184 : decode cX3_wave 184 = .ok (.land, 1) := dk_127 (dk_at dksX3_wave_7 19 rfl rfl)
theorem dX3_wave_185 : decode cX3_wave 185 = .ok (.lastore, 1) := dk_80 (dk_at dksX3_wave_7 20 rfl rfl)
theorem dX3_wave_186 : decode cX3_wave 186 = .ok (.aload_n 0, 1) := dk_42 (dk_at dksX3_wave_7 21 rfl rfl)
theorem dX3_wave_187 : decode cX3_wave 187 = .ok (.getfield 15, 3) := dk_180 0 15 (dk_at dksX3_wave_8 0 rfl rfl)
theorem dX3_wave_190 : decode cX3_wave 190 = .ok (.iload_n 3, 1) := dk_29 (dk_at dksX3_wave_8 3 rfl rfl)
theorem dX3_wave_191 : decode cX3_wave 191 = .ok (.dup2, 1) := dk_92 (dk_at dksX3_wave_8 4 rfl rfl)
theorem dX3_wave_192 : decode cX3_wave 192 = .ok (.laload, 1) := dk_47 (dk_at dksX3_wave_8 5 rfl rfl)
theorem dX3_wave_193 : decode cX3_wave 193 = .ok (.aload_n 0, 1) := dk_42 (dk_at dksX3_wave_8 6 rfl rfl)
theorem dX3_wave_194 : decode cX3_wave 194 = .ok (.getfield 22, 3) := dk_180 0 22 (dk_at dksX3_wave_8 7 rfl rfl)
theorem dX3_wave_197 : decode cX3_wave 197 = .ok (.iload_n 2, 1) := dk_28 (dk_at dksX3_wave_8 10 rfl rfl)
theorem dX3_wave_198 : decode cX3_wave 198 = .ok (.laload, 1) := dk_47 (dk_at dksX3_wave_8 11 rfl rfl)
theorem dX3_wave_199 : decode cX3_wave 199 = .ok (.ldc2_w 44, 3) := dk_20 0 44 (dk_at dksX3_wave_8 12 rfl rfl)
theorem dX3_wave_202 : decode cX3_wave 202 = .ok (.lxor, 1) := dk_131 (dk_at dksX3_wave_8 15 rfl rfl)
theorem dX3_wave_203 : decode cX3_wave 203 = .ok (.land, 1) := dk_127 (dk_at dksX3_wave_8 16 rfl rfl)
theorem dX3_wave_204 : decode cX3_wave 204 = .ok (.lastore, 1) := dk_80 (dk_at dksX3_wave_8 17 rfl rfl)
theorem dX3_wave_205 : decode cX3_wave 205 = .ok (.aload_n 0, 1) := dk_42 (dk_at dksX3_wave_8 18 rfl rfl)
theorem dX3_wave_206 : decode cX3_wave 206 = .ok (.getfield 15, 3) := dk_180 0 15 (dk_at dksX3_wave_8 19 rfl rfl)
theorem dX3_wave_209 : decode cX3_wave 209 = .ok (.iload_n 2, 1) := dk_28 (dk_at dksX3_wave_8 22 rfl rfl)
theorem dX3_wave_210 : decode cX3_wave 210 = .ok (.dup2, 1) := dk_92 (dk_at dksX3_wave_8 23 rfl rfl)
theorem dX3_wave_211 : decode cX3_wave 211 = .ok (.laload, 1) := dk_47 (dk_at dksX3_wave_9 0 rfl rfl)
theorem dX3_wave_212 : decode cX3_wave 212 = .ok (.aload_n 0, 1) := dk_42 (dk_at dksX3_wave_9 1 rfl rfl)
theorem dX3_wave_213 : decode cX3_wave 213 = .ok (.getfield 22, 3) := dk_180 0 22 (dk_at dksX3_wave_9 2 rfl rfl)
theorem dX3_wave_216 : decode cX3_wave 216 = .ok (.iload_n 2, 1) := dk_28 (dk_at dksX3_wave_9 5 rfl rfl)
theorem dX3_wave_217 : decode cX3_wave 217 = .ok (.laload, 1) := dk_47 (dk_at dksX3_wave_9 6 rfl rfl)
theorem dX3_wave_218 : decode cX3_wave 218 = .ok (.lor, 1) := dk_129 (dk_at dksX3_wave_9 7 rfl rfl)
theorem dX3_wave_219 : decode cX3_wave 219 = .ok (.lastore, 1) := dk_80 (dk_at dksX3_wave_9 8 rfl rfl)
theorem dX3_wave_220 : decode cX3_wave 220 = .ok (.iinc 2 1, 3) := dk_132 2 1 (dk_at dksX3_wave_9 9 rfl rfl)
theorem dX3_wave_223 : decode cX3_wave 223 = .ok (.goto (-90), 3) := dk_167 255 166 (dk_at dksX3_wave_9 12 rfl rfl)
theorem dX3_wave_226 : decode cX3_wave 226 = .ok (.aload_n 0, 1) := dk_42 (dk_at dksX3_wave_9 15 rfl rfl)
theorem dX3_wave_227 : decode cX3_wave 227 = .ok (.getfield 22, 3) := dk_180 0 22 (dk_at dksX3_wave_9 16 rfl rfl)
theorem dX3_wave_230 : decode cX3_wave 230 = .ok (.iconst 0, 1) := dk_3 (dk_at dksX3_wave_9 19 rfl rfl)
theorem dX3_wave_231 : decode cX3_wave 231 = .ok (.laload, 1) := dk_47 (dk_at dksX3_wave_9 20 rfl rfl)
theorem dX3_wave_232 : decode cX3_wave 232 = .ok (.invokestatic 58, 3) := dk_184 0 58 (dk_at dksX3_wave_9 21 rfl rfl)
theorem dX3_wave_235 : decode cX3_wave 235 = .ok (.aload_n 0, 1) := dk_42 (dk_at dksX3_wave_10 0 rfl rfl)
theorem dX3_wave_236 : decode cX3_wave 236 = .ok (.getfield 22, 3) := dk_180 0 22 (dk_at dksX3_wave_10 1 rfl rfl)
theorem dX3_wave_239 : decode cX3_wave 239 = .ok (.iconst 1, 1) := dk_4 (dk_at dksX3_wave_10 4 rfl rfl)
theorem dX3_wave_240 : decode cX3_wave 240 = .ok (.laload, 1) := dk_47 (dk_at dksX3_wave_10 5 rfl rfl)
theorem dX3_wave_241 : decode cX3_wave 241 = .ok (.invokestatic 58, 3) := dk_184 0 58 (dk_at dksX3_wave_10 6 rfl rfl)
theorem dX3_wave_244 : decode cX3_wave 244 = .ok (.iadd, 1) := dk_96 (dk_at dksX3_wave_10 9 rfl rfl)
theorem dX3_wave_245 : decode cX3_wave 245 = .ok (.ireturn, 1) := dk_172 (dk_at dksX3_wave_10 10 rfl rfl)
abbrev cX3_enclosed : ByteArray := prog_2_method_9_code
def yX3_enclosed : MethodName := ⟨RX3, "enclosed", "(LEnclosureReferee$Shape;II)J"⟩
def dkwX3_enclosed_1 : List UInt8 := [182, 0, 65, 55, 6, 43, 22, 6, 182, 0, 69, 153, 0, 8, 22, 6, 167, 0, 4, 9, 173]
abbrev dktX3_enclosed_1 : List UInt8 := dkwX3_enclosed_1 ++ []
def dkwX3_enclosed_0 : List UInt8 := [42, 43, 28, 182, 0, 62, 55, 4, 22, 4, 29, 184, 0, 54, 154, 0, 5, 9, 173, 43, 29, 22, 4]
abbrev dktX3_enclosed_0 : List UInt8 := dkwX3_enclosed_0 ++ dktX3_enclosed_1
theorem dksX3_enclosed_0 : cX3_enclosed.data.toList.drop 0 = dktX3_enclosed_0 := by decide +kernel
theorem dksX3_enclosed_1 : cX3_enclosed.data.toList.drop 23 = dktX3_enclosed_1 := dk_seg dksX3_enclosed_0 23 rfl rfl
theorem dX3_enclosed_0 : decode cX3_enclosed 0 = .ok (.aload_n 0, 1) := dk_42 (dk_at dksX3_enclosed_0 0 rfl rfl)
theorem dX3_enclosed_1 : decode cX3_enclosed 1 = .ok (.aload_n 1, 1) := dk_43 (dk_at dksX3_enclosed_0 1 rfl rfl)
theorem dX3_enclosed_2 : decode cX3_enclosed 2 = .ok (.iload_n 2, 1) := dk_28 (dk_at dksX3_enclosed_0 2 rfl rfl)
theorem dX3_enclosed_3 : decode cX3_enclosed 3 = .ok (.invokevirtual 62, 3) := dk_182 0 62 (dk_at dksX3_enclosed_0 3 rfl rfl)
theorem dX3_enclosed_6 : decode cX3_enclosed 6 = .ok (.lstore 4, 2) := dk_55 4 (dk_at dksX3_enclosed_0 6 rfl rfl)
theorem dX3_enclosed_8 : decode cX3_enclosed 8 = .ok (.lload 4, 2) := dk_22 4 (dk_at dksX3_enclosed_0 8 rfl rfl)
theorem dX3_enclosed_10 : decode cX3_enclosed 10 = .ok (.iload_n 3, 1) := dk_29 (dk_at dksX3_enclosed_0 10 rfl rfl)
theorem dX3_enclosed_11 : decode cX3_enclosed 11 = .ok (.invokestatic 54, 3) := dk_184 0 54 (dk_at dksX3_enclosed_0 11 rfl rfl)
theorem dX3_enclosed_14 : decode cX3_enclosed 14 = .ok (.ifCond .ne 5, 3) := dk_154 0 5 (dk_at dksX3_enclosed_0 14 rfl rfl)
theorem dX3_enclosed_17 : decode cX3_enclosed 17 = .ok (.lconst 0, 1) := dk_9 (dk_at dksX3_enclosed_0 17 rfl rfl)
theorem dX3_enclosed_18 : decode cX3_enclosed 18 = .ok (.lreturn, 1) := dk_173 (dk_at dksX3_enclosed_0 18 rfl rfl)
theorem dX3_enclosed_19 : decode cX3_enclosed 19 = .ok (.aload_n 1, 1) := dk_43 (dk_at dksX3_enclosed_0 19 rfl rfl)
theorem dX3_enclosed_20 : decode cX3_enclosed 20 = .ok (.iload_n 3, 1) := dk_29 (dk_at dksX3_enclosed_0 20 rfl rfl)
theorem dX3_enclosed_21 : decode cX3_enclosed 21 = .ok (.lload 4, 2) := dk_22 4 (dk_at dksX3_enclosed_0 21 rfl rfl)
theorem dX3_enclosed_23 : decode cX3_enclosed 23 = .ok (.invokevirtual 65, 3) := dk_182 0 65 (dk_at dksX3_enclosed_1 0 rfl rfl)
theorem dX3_enclosed_26 : decode cX3_enclosed 26 = .ok (.lstore 6, 2) := dk_55 6 (dk_at dksX3_enclosed_1 3 rfl rfl)
theorem dX3_enclosed_28 : decode cX3_enclosed 28 = .ok (.aload_n 1, 1) := dk_43 (dk_at dksX3_enclosed_1 5 rfl rfl)
theorem dX3_enclosed_29 : decode cX3_enclosed 29 = .ok (.lload 6, 2) := dk_22 6 (dk_at dksX3_enclosed_1 6 rfl rfl)
theorem dX3_enclosed_31 : decode cX3_enclosed 31 = .ok (.invokevirtual 69, 3) := dk_182 0 69 (dk_at dksX3_enclosed_1 8 rfl rfl)
theorem dX3_enclosed_34 : decode cX3_enclosed 34 = .ok (.ifCond .eq 8, 3) := dk_153 0 8 (dk_at dksX3_enclosed_1 11 rfl rfl)
theorem dX3_enclosed_37 : decode cX3_enclosed 37 = .ok (.lload 6, 2) := dk_22 6 (dk_at dksX3_enclosed_1 14 rfl rfl)
theorem dX3_enclosed_39 : decode cX3_enclosed 39 = .ok (.goto 4, 3) := dk_167 0 4 (dk_at dksX3_enclosed_1 16 rfl rfl)
theorem dX3_enclosed_42 : decode cX3_enclosed 42 = .ok (.lconst 0, 1) := dk_9 (dk_at dksX3_enclosed_1 19 rfl rfl)
theorem dX3_enclosed_43 : decode cX3_enclosed 43 = .ok (.lreturn, 1) := dk_173 (dk_at dksX3_enclosed_1 20 rfl rfl)
abbrev cX3_open : ByteArray := prog_2_method_5_code
def yX3_open : MethodName := ⟨RX3, "open", "(LEnclosureReferee$Shape;I)J"⟩
def dkwX3_open_0 : List UInt8 := [43, 180, 0, 35, 42, 28, 182, 0, 40, 42, 180, 0, 31, 129, 20, 0, 44, 131, 127, 173]
abbrev dktX3_open_0 : List UInt8 := dkwX3_open_0 ++ []
theorem dksX3_open_0 : cX3_open.data.toList.drop 0 = dktX3_open_0 := by decide +kernel
theorem dX3_open_0 : decode cX3_open 0 = .ok (.aload_n 1, 1) := dk_43 (dk_at dksX3_open_0 0 rfl rfl)
theorem dX3_open_1 : decode cX3_open 1 = .ok (.getfield 35, 3) := dk_180 0 35 (dk_at dksX3_open_0 1 rfl rfl)
theorem dX3_open_4 : decode cX3_open 4 = .ok (.aload_n 0, 1) := dk_42 (dk_at dksX3_open_0 4 rfl rfl)
theorem dX3_open_5 : decode cX3_open 5 = .ok (.iload_n 2, 1) := dk_28 (dk_at dksX3_open_0 5 rfl rfl)
theorem dX3_open_6 : decode cX3_open 6 = .ok (.invokevirtual 40, 3) := dk_182 0 40 (dk_at dksX3_open_0 6 rfl rfl)
theorem dX3_open_9 : decode cX3_open 9 = .ok (.aload_n 0, 1) := dk_42 (dk_at dksX3_open_0 9 rfl rfl)
theorem dX3_open_10 : decode cX3_open 10 = .ok (.getfield 31, 3) := dk_180 0 31 (dk_at dksX3_open_0 10 rfl rfl)
theorem dX3_open_13 : decode cX3_open 13 = .ok (.lor, 1) := dk_129 (dk_at dksX3_open_0 13 rfl rfl)
theorem dX3_open_14 : decode cX3_open 14 = .ok (.ldc2_w 44, 3) := dk_20 0 44 (dk_at dksX3_open_0 14 rfl rfl)
theorem dX3_open_17 : decode cX3_open 17 = .ok (.lxor, 1) := dk_131 (dk_at dksX3_open_0 17 rfl rfl)
theorem dX3_open_18 : decode cX3_open 18 = .ok (.land, 1) := dk_127 (dk_at dksX3_open_0 18 rfl rfl)
theorem dX3_open_19 : decode cX3_open 19 = .ok (.lreturn, 1) := dk_173 (dk_at dksX3_open_0 19 rfl rfl)
theorem q72 : (Jvm.Cond.initialized "EnclosureReferee$Board") ∈ lw_all := lw_g (lw_at lw_m1 6 rfl) rfl
theorem q149 : (Jvm.Cond.instantiable "EnclosureReferee$Board" (5 : Nat)) ∈ lw_all := lw_g (lw_at lw_m1 83 rfl) rfl
theorem q151 : (Jvm.Cond.instanceMethod ({ cls := "EnclosureReferee$Board", name := "<init>", desc := "()V" } : Jvm.MethodName)) ∈ lw_all := lw_g (lw_at lw_m1 85 rfl) rfl
theorem q152 : (Jvm.Cond.code ({ cls := "EnclosureReferee$Board", name := "<init>", desc := "()V" } : Jvm.MethodName) prog_2_method_1_code (1 : Nat) (Option.none : Option Jvm.ClassFile.FieldType)) ∈ lw_all := lw_g (lw_at lw_m1 86 rfl) rfl
theorem q153 : (Jvm.Cond.methodLink "EnclosureReferee$Board" (3 : Nat) ({ cls := "java/lang/Object", name := "<init>", desc := "()V" } : Jvm.MethodName)) ∈ lw_all := lw_g (lw_at lw_m1 87 rfl) rfl
theorem q154 : (Jvm.Cond.fieldLink "EnclosureReferee$Board" (9 : Nat) "EnclosureReferee$Board" "stones" "[J") ∈ lw_all := lw_g (lw_at lw_m1 88 rfl) rfl
theorem q157 : (Jvm.Cond.fieldLink "EnclosureReferee$Board" (15 : Nat) "EnclosureReferee$Board" "areas" "[J") ∈ lw_all := lw_g (lw_at lw_m1 91 rfl) rfl
theorem q159 : (Jvm.Cond.fieldLink "EnclosureReferee$Board" (31 : Nat) "EnclosureReferee$Board" "blocks" "J") ∈ lw_all := lw_g (lw_at lw_m1 93 rfl) rfl
theorem q161 : (Jvm.Cond.fieldLink "EnclosureReferee$Board" (18 : Nat) "EnclosureReferee$Board" "captured" "[I") ∈ lw_all := lw_g (lw_at lw_m1 95 rfl) rfl
theorem q163 : (Jvm.Cond.fieldLink "EnclosureReferee$Board" (22 : Nat) "EnclosureReferee$Board" "gained" "[J") ∈ lw_all := lw_g (lw_at lw_m1 97 rfl) rfl
theorem q165 : (Jvm.Cond.laysFinal "EnclosureReferee$Board" "EnclosureReferee$Board" "stones" "[J") ∈ lw_all := lw_g (lw_at lw_m1 99 rfl) rfl
theorem q166 : (Jvm.Cond.soleField "EnclosureReferee$Board" "stones") ∈ lw_all := lw_g (lw_at lw_m1 100 rfl) rfl
theorem q167 : (Jvm.Cond.laysFinal "EnclosureReferee$Board" "EnclosureReferee$Board" "areas" "[J") ∈ lw_all := lw_g (lw_at lw_m1 101 rfl) rfl
theorem q168 : (Jvm.Cond.soleField "EnclosureReferee$Board" "areas") ∈ lw_all := lw_g (lw_at lw_m1 102 rfl) rfl
theorem q169 : (Jvm.Cond.lays "EnclosureReferee$Board" "EnclosureReferee$Board" "blocks" "J") ∈ lw_all := lw_g (lw_at lw_m1 103 rfl) rfl
theorem q170 : (Jvm.Cond.soleField "EnclosureReferee$Board" "blocks") ∈ lw_all := lw_g (lw_at lw_m1 104 rfl) rfl
theorem q171 : (Jvm.Cond.laysFinal "EnclosureReferee$Board" "EnclosureReferee$Board" "captured" "[I") ∈ lw_all := lw_g (lw_at lw_m1 105 rfl) rfl
theorem q172 : (Jvm.Cond.soleField "EnclosureReferee$Board" "captured") ∈ lw_all := lw_g (lw_at lw_m1 106 rfl) rfl
theorem q173 : (Jvm.Cond.laysFinal "EnclosureReferee$Board" "EnclosureReferee$Board" "gained" "[J") ∈ lw_all := lw_g (lw_at lw_m1 107 rfl) rfl
theorem q174 : (Jvm.Cond.soleField "EnclosureReferee$Board" "gained") ∈ lw_all := lw_g (lw_at lw_m1 108 rfl) rfl
theorem q175 : (Jvm.Cond.superclass "EnclosureReferee$Board" "java/lang/Object") ∈ lw_all := lw_g (lw_at lw_m1 109 rfl) rfl
theorem q194 : (Jvm.Cond.fieldLinkNest "EnclosureReferee$Board" (35 : Nat) "EnclosureReferee$Shape" "all" "J" "EnclosureReferee") ∈ lw_tbl := lw_at lw_m1 128 rfl
theorem q291 : (Jvm.Cond.selects "EnclosureReferee$Board" ({ cls := "java/lang/Object", name := "getClass", desc := "()Ljava/lang/Class;" } : Jvm.MethodName) ({ cls := "java/lang/Object", name := "getClass", desc := "()Ljava/lang/Class;" } : Jvm.MethodName)) ∈ lw_all := lw_g (lw_at lw_m1 225 rfl) rfl
theorem q423 : (Jvm.Cond.instanceMethod ({ cls := "EnclosureReferee$Board", name := "empty", desc := "(LEnclosureReferee$Shape;)J" } : Jvm.MethodName)) ∈ lw_all := lw_g (lw_at lw_m2 117 rfl) rfl
theorem q424 : (Jvm.Cond.selects "EnclosureReferee$Board" ({ cls := "EnclosureReferee$Board", name := "empty", desc := "(LEnclosureReferee$Shape;)J" } : Jvm.MethodName) ({ cls := "EnclosureReferee$Board", name := "empty", desc := "(LEnclosureReferee$Shape;)J" } : Jvm.MethodName)) ∈ lw_all := lw_g (lw_at lw_m2 118 rfl) rfl
theorem q425 : (Jvm.Cond.code ({ cls := "EnclosureReferee$Board", name := "empty", desc := "(LEnclosureReferee$Shape;)J" } : Jvm.MethodName) prog_2_method_4_code (2 : Nat) (Option.some Jvm.ClassFile.FieldType.long)) ∈ lw_all := lw_g (lw_at lw_m2 119 rfl) rfl
theorem q426 : (Jvm.Cond.methodLink "EnclosureReferee$Board" (40 : Nat) ({ cls := "EnclosureReferee$Board", name := "own", desc := "(I)J" } : Jvm.MethodName)) ∈ lw_all := lw_g (lw_at lw_m2 120 rfl) rfl
theorem q427 : (Jvm.Cond.instanceMethod ({ cls := "EnclosureReferee$Board", name := "own", desc := "(I)J" } : Jvm.MethodName)) ∈ lw_all := lw_g (lw_at lw_m2 121 rfl) rfl
theorem q428 : (Jvm.Cond.selects "EnclosureReferee$Board" ({ cls := "EnclosureReferee$Board", name := "own", desc := "(I)J" } : Jvm.MethodName) ({ cls := "EnclosureReferee$Board", name := "own", desc := "(I)J" } : Jvm.MethodName)) ∈ lw_all := lw_g (lw_at lw_m2 122 rfl) rfl
theorem q429 : (Jvm.Cond.code ({ cls := "EnclosureReferee$Board", name := "own", desc := "(I)J" } : Jvm.MethodName) prog_2_method_3_code (2 : Nat) (Option.some Jvm.ClassFile.FieldType.long)) ∈ lw_all := lw_g (lw_at lw_m2 123 rfl) rfl
theorem q430 : (Jvm.Cond.constantLong "EnclosureReferee$Board" (44 : Nat) (-1 : Int64)) ∈ lw_all := lw_g (lw_at lw_m2 124 rfl) rfl
theorem q698 : (Jvm.Cond.instanceMethod ({ cls := "EnclosureReferee$Board", name := "state", desc := "(LEnclosureReferee$Shape;I)I" } : Jvm.MethodName)) ∈ lw_all := lw_g (lw_at lw_m3 152 rfl) rfl
theorem q699 : (Jvm.Cond.selects "EnclosureReferee$Board" ({ cls := "EnclosureReferee$Board", name := "state", desc := "(LEnclosureReferee$Shape;I)I" } : Jvm.MethodName) ({ cls := "EnclosureReferee$Board", name := "state", desc := "(LEnclosureReferee$Shape;I)I" } : Jvm.MethodName)) ∈ lw_all := lw_g (lw_at lw_m3 153 rfl) rfl
theorem q700 : (Jvm.Cond.code ({ cls := "EnclosureReferee$Board", name := "state", desc := "(LEnclosureReferee$Shape;I)I" } : Jvm.MethodName) prog_2_method_7_code (5 : Nat) (Option.some Jvm.ClassFile.FieldType.int)) ∈ lw_all := lw_g (lw_at lw_m3 154 rfl) rfl
theorem q701 : (Jvm.Cond.methodLink "EnclosureReferee$Board" (50 : Nat) ({ cls := "EnclosureReferee$Board", name := "cells", desc := "(LEnclosureReferee$Shape;I)J" } : Jvm.MethodName)) ∈ lw_all := lw_g (lw_at lw_m3 155 rfl) rfl
theorem q702 : (Jvm.Cond.instanceMethod ({ cls := "EnclosureReferee$Board", name := "cells", desc := "(LEnclosureReferee$Shape;I)J" } : Jvm.MethodName)) ∈ lw_all := lw_g (lw_at lw_m3 156 rfl) rfl
theorem q703 : (Jvm.Cond.selects "EnclosureReferee$Board" ({ cls := "EnclosureReferee$Board", name := "cells", desc := "(LEnclosureReferee$Shape;I)J" } : Jvm.MethodName) ({ cls := "EnclosureReferee$Board", name := "cells", desc := "(LEnclosureReferee$Shape;I)J" } : Jvm.MethodName)) ∈ lw_all := lw_g (lw_at lw_m3 157 rfl) rfl
theorem q704 : (Jvm.Cond.code ({ cls := "EnclosureReferee$Board", name := "cells", desc := "(LEnclosureReferee$Shape;I)J" } : Jvm.MethodName) prog_2_method_6_code (3 : Nat) (Option.some Jvm.ClassFile.FieldType.long)) ∈ lw_all := lw_g (lw_at lw_m3 158 rfl) rfl
theorem q705 : (Jvm.Cond.methodLink "EnclosureReferee$Board" (46 : Nat) ({ cls := "EnclosureReferee$Board", name := "empty", desc := "(LEnclosureReferee$Shape;)J" } : Jvm.MethodName)) ∈ lw_all := lw_g (lw_at lw_m3 159 rfl) rfl
theorem q706 : (Jvm.Cond.methodLinkNest "EnclosureReferee$Board" (54 : Nat) ({ cls := "EnclosureReferee", name := "has", desc := "(JI)Z" } : Jvm.MethodName) "EnclosureReferee") ∈ lw_tbl := lw_at lw_m3 160 rfl
theorem q795 : (Jvm.Cond.instanceMethod ({ cls := "EnclosureReferee$Board", name := "set", desc := "(LEnclosureReferee$Board;)V" } : Jvm.MethodName)) ∈ lw_all := lw_g (lw_at lw_m4 9 rfl) rfl
theorem q796 : (Jvm.Cond.selects "EnclosureReferee$Board" ({ cls := "EnclosureReferee$Board", name := "set", desc := "(LEnclosureReferee$Board;)V" } : Jvm.MethodName) ({ cls := "EnclosureReferee$Board", name := "set", desc := "(LEnclosureReferee$Board;)V" } : Jvm.MethodName)) ∈ lw_all := lw_g (lw_at lw_m4 10 rfl) rfl
theorem q797 : (Jvm.Cond.code ({ cls := "EnclosureReferee$Board", name := "set", desc := "(LEnclosureReferee$Board;)V" } : Jvm.MethodName) prog_2_method_2_code (2 : Nat) (Option.none : Option Jvm.ClassFile.FieldType)) ∈ lw_all := lw_g (lw_at lw_m4 11 rfl) rfl
theorem q798 : (Jvm.Cond.methodLink "EnclosureReferee$Board" (25 : Nat) ({ cls := "java/lang/System", name := "arraycopy", desc := "(Ljava/lang/Object;ILjava/lang/Object;II)V" } : Jvm.MethodName)) ∈ lw_all := lw_g (lw_at lw_m4 12 rfl) rfl
theorem q809 : (Jvm.Cond.instanceMethod ({ cls := "EnclosureReferee$Board", name := "points", desc := "(I)I" } : Jvm.MethodName)) ∈ lw_all := lw_g (lw_at lw_m4 23 rfl) rfl
theorem q810 : (Jvm.Cond.selects "EnclosureReferee$Board" ({ cls := "EnclosureReferee$Board", name := "points", desc := "(I)I" } : Jvm.MethodName) ({ cls := "EnclosureReferee$Board", name := "points", desc := "(I)I" } : Jvm.MethodName)) ∈ lw_all := lw_g (lw_at lw_m4 24 rfl) rfl
theorem q811 : (Jvm.Cond.code ({ cls := "EnclosureReferee$Board", name := "points", desc := "(I)I" } : Jvm.MethodName) prog_2_method_8_code (2 : Nat) (Option.some Jvm.ClassFile.FieldType.int)) ∈ lw_all := lw_g (lw_at lw_m4 25 rfl) rfl
theorem q812 : (Jvm.Cond.methodLinkNest "EnclosureReferee$Board" (58 : Nat) ({ cls := "EnclosureReferee", name := "size", desc := "(J)I" } : Jvm.MethodName) "EnclosureReferee") ∈ lw_tbl := lw_at lw_m4 26 rfl
theorem q819 : (Jvm.Cond.instanceMethod ({ cls := "EnclosureReferee$Board", name := "place", desc := "(III)V" } : Jvm.MethodName)) ∈ lw_all := lw_g (lw_at lw_m4 33 rfl) rfl
theorem q820 : (Jvm.Cond.selects "EnclosureReferee$Board" ({ cls := "EnclosureReferee$Board", name := "place", desc := "(III)V" } : Jvm.MethodName) ({ cls := "EnclosureReferee$Board", name := "place", desc := "(III)V" } : Jvm.MethodName)) ∈ lw_all := lw_g (lw_at lw_m4 34 rfl) rfl
theorem q821 : (Jvm.Cond.code ({ cls := "EnclosureReferee$Board", name := "place", desc := "(III)V" } : Jvm.MethodName) prog_2_method_11_code (4 : Nat) (Option.none : Option Jvm.ClassFile.FieldType)) ∈ lw_all := lw_g (lw_at lw_m4 35 rfl) rfl
theorem q822 : (Jvm.Cond.methodLinkNest "EnclosureReferee$Board" (80 : Nat) ({ cls := "EnclosureReferee", name := "bit", desc := "(I)J" } : Jvm.MethodName) "EnclosureReferee") ∈ lw_tbl := lw_at lw_m4 36 rfl
theorem q830 : (Jvm.Cond.instanceMethod ({ cls := "EnclosureReferee$Board", name := "wave", desc := "(LEnclosureReferee$Shape;)I" } : Jvm.MethodName)) ∈ lw_all := lw_g (lw_at lw_m4 44 rfl) rfl
theorem q831 : (Jvm.Cond.selects "EnclosureReferee$Board" ({ cls := "EnclosureReferee$Board", name := "wave", desc := "(LEnclosureReferee$Shape;)I" } : Jvm.MethodName) ({ cls := "EnclosureReferee$Board", name := "wave", desc := "(LEnclosureReferee$Shape;)I" } : Jvm.MethodName)) ∈ lw_all := lw_g (lw_at lw_m4 45 rfl) rfl
theorem q832 : (Jvm.Cond.code ({ cls := "EnclosureReferee$Board", name := "wave", desc := "(LEnclosureReferee$Shape;)I" } : Jvm.MethodName) prog_2_method_10_code (5 : Nat) (Option.some Jvm.ClassFile.FieldType.int)) ∈ lw_all := lw_g (lw_at lw_m4 46 rfl) rfl
theorem q833 : (Jvm.Cond.methodLink "EnclosureReferee$Board" (73 : Nat) ({ cls := "EnclosureReferee$Shape", name := "cells", desc := "()I" } : Jvm.MethodName)) ∈ lw_all := lw_g (lw_at lw_m4 47 rfl) rfl
theorem q834 : (Jvm.Cond.methodLink "EnclosureReferee$Board" (76 : Nat) ({ cls := "EnclosureReferee$Board", name := "enclosed", desc := "(LEnclosureReferee$Shape;II)J" } : Jvm.MethodName)) ∈ lw_all := lw_g (lw_at lw_m4 48 rfl) rfl
theorem q835 : (Jvm.Cond.privateMethod ({ cls := "EnclosureReferee$Board", name := "enclosed", desc := "(LEnclosureReferee$Shape;II)J" } : Jvm.MethodName)) ∈ lw_tbl := lw_at lw_m4 49 rfl
theorem q836 : (Jvm.Cond.instanceMethod ({ cls := "EnclosureReferee$Board", name := "enclosed", desc := "(LEnclosureReferee$Shape;II)J" } : Jvm.MethodName)) ∈ lw_all := lw_g (lw_at lw_m4 50 rfl) rfl
theorem q837 : (Jvm.Cond.code ({ cls := "EnclosureReferee$Board", name := "enclosed", desc := "(LEnclosureReferee$Shape;II)J" } : Jvm.MethodName) prog_2_method_9_code (8 : Nat) (Option.some Jvm.ClassFile.FieldType.long)) ∈ lw_all := lw_g (lw_at lw_m4 51 rfl) rfl
theorem q838 : (Jvm.Cond.methodLink "EnclosureReferee$Board" (62 : Nat) ({ cls := "EnclosureReferee$Board", name := "open", desc := "(LEnclosureReferee$Shape;I)J" } : Jvm.MethodName)) ∈ lw_all := lw_g (lw_at lw_m4 52 rfl) rfl
theorem q839 : (Jvm.Cond.instanceMethod ({ cls := "EnclosureReferee$Board", name := "open", desc := "(LEnclosureReferee$Shape;I)J" } : Jvm.MethodName)) ∈ lw_all := lw_g (lw_at lw_m4 53 rfl) rfl
theorem q840 : (Jvm.Cond.selects "EnclosureReferee$Board" ({ cls := "EnclosureReferee$Board", name := "open", desc := "(LEnclosureReferee$Shape;I)J" } : Jvm.MethodName) ({ cls := "EnclosureReferee$Board", name := "open", desc := "(LEnclosureReferee$Shape;I)J" } : Jvm.MethodName)) ∈ lw_all := lw_g (lw_at lw_m4 54 rfl) rfl
theorem q841 : (Jvm.Cond.code ({ cls := "EnclosureReferee$Board", name := "open", desc := "(LEnclosureReferee$Shape;I)J" } : Jvm.MethodName) prog_2_method_5_code (3 : Nat) (Option.some Jvm.ClassFile.FieldType.long)) ∈ lw_all := lw_g (lw_at lw_m4 55 rfl) rfl
theorem q842 : (Jvm.Cond.methodLink "EnclosureReferee$Board" (65 : Nat) ({ cls := "EnclosureReferee$Shape", name := "connected", desc := "(IJ)J" } : Jvm.MethodName)) ∈ lw_all := lw_g (lw_at lw_m4 56 rfl) rfl
theorem q851 : (Jvm.Cond.methodLink "EnclosureReferee$Board" (69 : Nat) ({ cls := "EnclosureReferee$Shape", name := "isInside", desc := "(J)Z" } : Jvm.MethodName)) ∈ lw_all := lw_g (lw_at lw_m4 65 rfl) rfl
theorem q1895 : (Jvm.Cond.castable "EnclosureReferee$Board" "java/lang/Object") ∈ lw_tbl := lw_at lw_m8 149 rfl
theorem in_X3 : ∀ w ∈ wsX30, w ∈ lw_all := lw_in wsX30 [165, 167, 169, 171, 173] (by decide +kernel) (by decide +kernel)
/-! EnclosureReferee$Shape -/
set_option maxRecDepth 100000
def RX4 : String := "EnclosureReferee$Shape"
def TX4 : u_T := fun k => match k with
  | 0 => ("EnclosureReferee$Shape", "width", "I", true)
  | 1 => ("EnclosureReferee$Shape", "height", "I", true)
  | 2 => ("EnclosureReferee$Shape", "all", "J", true)
  | 3 => ("EnclosureReferee$Shape", "left", "J", true)
  | 4 => ("EnclosureReferee$Shape", "right", "J", true)
  | _ => ("EnclosureReferee$Shape", "edge", "J", true)
def tyX4 : Nat → FieldType := fun k => match k with
  | 0 => .int
  | 1 => .int
  | 2 => .long
  | 3 => .long
  | 4 => .long
  | _ => .long
abbrev wsX40 : List Cond := u_ws RX4 TX4 6
theorem nmX4 : ∀ a, a < 6 → ∀ b, b < 6 → a ≠ b → (TX4 a).2.1 ≠ (TX4 b).2.1 := by decide +kernel
theorem tyX4_ok : ∀ k, k < 6 → parseFieldDescriptor (TX4 k).2.2.1 = some (tyX4 k) := by decide +kernel
abbrev cX4_init : ByteArray := prog_10_method_1_code
def yX4_init : MethodName := ⟨RX4, "<init>", "(II)V"⟩
def dkwX4_init_4 : List UInt8 := [121, 129, 181, 0, 32, 177]
abbrev dktX4_init_4 : List UInt8 := dkwX4_init_4 ++ []
def dkwX4_init_3 : List UInt8 := [10, 101, 55, 5, 42, 42, 180, 0, 26, 42, 180, 0, 29, 129, 22, 5, 129, 22, 5, 27, 28, 4, 100, 104]
abbrev dktX4_init_3 : List UInt8 := dkwX4_init_3 ++ dktX4_init_4
def dkwX4_init_2 : List UInt8 := [132, 5, 1, 167, 255, 237, 42, 33, 181, 0, 26, 42, 33, 27, 4, 100, 121, 181, 0, 29, 27, 184, 0, 16]
abbrev dktX4_init_2 : List UInt8 := dkwX4_init_2 ++ dktX4_init_3
def dkwX4_init_1 : List UInt8 := [181, 0, 22, 9, 66, 3, 54, 5, 21, 5, 28, 162, 0, 19, 33, 27, 21, 5, 104, 184, 0, 16, 129, 66]
abbrev dktX4_init_1 : List UInt8 := dkwX4_init_1 ++ dktX4_init_2
def dkwX4_init_0 : List UInt8 := [42, 183, 0, 1, 42, 27, 181, 0, 7, 42, 28, 181, 0, 13, 42, 27, 28, 104, 184, 0, 16, 10, 101]
abbrev dktX4_init_0 : List UInt8 := dkwX4_init_0 ++ dktX4_init_1
theorem dksX4_init_0 : cX4_init.data.toList.drop 0 = dktX4_init_0 := by decide +kernel
theorem dksX4_init_1 : cX4_init.data.toList.drop 23 = dktX4_init_1 := dk_seg dksX4_init_0 23 rfl rfl
theorem dksX4_init_2 : cX4_init.data.toList.drop 47 = dktX4_init_2 := dk_seg dksX4_init_1 24 rfl rfl
theorem dksX4_init_3 : cX4_init.data.toList.drop 71 = dktX4_init_3 := dk_seg dksX4_init_2 24 rfl rfl
theorem dksX4_init_4 : cX4_init.data.toList.drop 95 = dktX4_init_4 := dk_seg dksX4_init_3 24 rfl rfl
theorem dX4_init_0 : decode cX4_init 0 = .ok (.aload_n 0, 1) := dk_42 (dk_at dksX4_init_0 0 rfl rfl)
theorem dX4_init_1 : decode cX4_init 1 = .ok (.invokespecial 1, 3) := dk_183 0 1 (dk_at dksX4_init_0 1 rfl rfl)
theorem dX4_init_4 : decode cX4_init 4 = .ok (.aload_n 0, 1) := dk_42 (dk_at dksX4_init_0 4 rfl rfl)
theorem dX4_init_5 : decode cX4_init 5 = .ok (.iload_n 1, 1) := dk_27 (dk_at dksX4_init_0 5 rfl rfl)
theorem dX4_init_6 : decode cX4_init 6 = .ok (.putfield 7, 3) := dk_181 0 7 (dk_at dksX4_init_0 6 rfl rfl)
theorem dX4_init_9 : decode cX4_init 9 = .ok (.aload_n 0, 1) := dk_42 (dk_at dksX4_init_0 9 rfl rfl)
theorem dX4_init_10 : decode cX4_init 10 = .ok (.iload_n 2, 1) := dk_28 (dk_at dksX4_init_0 10 rfl rfl)
theorem dX4_init_11 : decode cX4_init 11 = .ok (.putfield 13, 3) := dk_181 0 13 (dk_at dksX4_init_0 11 rfl rfl)
theorem dX4_init_14 : decode cX4_init 14 = .ok (.aload_n 0, 1) := dk_42 (dk_at dksX4_init_0 14 rfl rfl)
theorem dX4_init_15 : decode cX4_init 15 = .ok (.iload_n 1, 1) := dk_27 (dk_at dksX4_init_0 15 rfl rfl)
theorem dX4_init_16 : decode cX4_init 16 = .ok (.iload_n 2, 1) := dk_28 (dk_at dksX4_init_0 16 rfl rfl)
theorem dX4_init_17 : decode cX4_init 17 = .ok (.imul, 1) := dk_104 (dk_at dksX4_init_0 17 rfl rfl)
theorem dX4_init_18 : decode cX4_init 18 = .ok (.invokestatic 16, 3) := dk_184 0 16 (dk_at dksX4_init_0 18 rfl rfl)
theorem dX4_init_21 : decode cX4_init 21 = .ok (.lconst 1, 1) := dk_10 (dk_at dksX4_init_0 21 rfl rfl)
theorem dX4_init_22 : decode cX4_init 22 = .ok (.lsub, 1) := dk_101 (dk_at dksX4_init_0 22 rfl rfl)
theorem dX4_init_23 : decode cX4_init 23 = .ok (.putfield 22, 3) := dk_181 0 22 (dk_at dksX4_init_1 0 rfl rfl)
theorem dX4_init_26 : decode cX4_init 26 = .ok (.lconst 0, 1) := dk_9 (dk_at dksX4_init_1 3 rfl rfl)
theorem dX4_init_27 : decode cX4_init 27 = .ok (.lstore_n 3, 1) := dk_66 (dk_at dksX4_init_1 4 rfl rfl)
theorem dX4_init_28 : decode cX4_init 28 = .ok (.iconst 0, 1) := dk_3 (dk_at dksX4_init_1 5 rfl rfl)
theorem dX4_init_29 : decode cX4_init 29 = .ok (.istore 5, 2) := dk_54 5 (dk_at dksX4_init_1 6 rfl rfl)
theorem dX4_init_31 : decode cX4_init 31 = .ok (.iload 5, 2) := dk_21 5 (dk_at dksX4_init_1 8 rfl rfl)
theorem dX4_init_33 : decode cX4_init 33 = .ok (.iload_n 2, 1) := dk_28 (dk_at dksX4_init_1 10 rfl rfl)
theorem dX4_init_34 : decode cX4_init 34 = .ok (.if_icmp .ge 19, 3) := dk_162 0 19 (dk_at dksX4_init_1 11 rfl rfl)
theorem dX4_init_37 : decode cX4_init 37 = .ok (.lload_n 3, 1) := dk_33 (dk_at dksX4_init_1 14 rfl rfl)
theorem dX4_init_38 : decode cX4_init 38 = .ok (.iload_n 1, 1) := dk_27 (dk_at dksX4_init_1 15 rfl rfl)
theorem dX4_init_39 : decode cX4_init 39 = .ok (.iload 5, 2) := dk_21 5 (dk_at dksX4_init_1 16 rfl rfl)
theorem dX4_init_41 : decode cX4_init 41 = .ok (.imul, 1) := dk_104 (dk_at dksX4_init_1 18 rfl rfl)
theorem dX4_init_42 : decode cX4_init 42 = .ok (.invokestatic 16, 3) := dk_184 0 16 (dk_at dksX4_init_1 19 rfl rfl)
theorem dX4_init_45 : decode cX4_init 45 = .ok (.lor, 1) := dk_129 (dk_at dksX4_init_1 22 rfl rfl)
theorem dX4_init_46 : decode cX4_init 46 = .ok (.lstore_n 3, 1) := dk_66 (dk_at dksX4_init_1 23 rfl rfl)
theorem dX4_init_47 : decode cX4_init 47 = .ok (.iinc 5 1, 3) := dk_132 5 1 (dk_at dksX4_init_2 0 rfl rfl)
theorem dX4_init_50 : decode cX4_init 50 = .ok (.goto (-19), 3) := dk_167 255 237 (dk_at dksX4_init_2 3 rfl rfl)
theorem dX4_init_53 : decode cX4_init 53 = .ok (.aload_n 0, 1) := dk_42 (dk_at dksX4_init_2 6 rfl rfl)
theorem dX4_init_54 : decode cX4_init 54 = .ok (.lload_n 3, 1) := dk_33 (dk_at dksX4_init_2 7 rfl rfl)
theorem dX4_init_55 : decode cX4_init 55 = .ok (.putfield 26, 3) := dk_181 0 26 (dk_at dksX4_init_2 8 rfl rfl)
theorem dX4_init_58 : decode cX4_init 58 = .ok (.aload_n 0, 1) := dk_42 (dk_at dksX4_init_2 11 rfl rfl)
theorem dX4_init_59 : decode cX4_init 59 = .ok (.lload_n 3, 1) := dk_33 (dk_at dksX4_init_2 12 rfl rfl)
theorem dX4_init_60 : decode cX4_init 60 = .ok (.iload_n 1, 1) := dk_27 (dk_at dksX4_init_2 13 rfl rfl)
theorem dX4_init_61 : decode cX4_init 61 = .ok (.iconst 1, 1) := dk_4 (dk_at dksX4_init_2 14 rfl rfl)
theorem dX4_init_62 : decode cX4_init 62 = .ok (.isub, 1) := dk_100 (dk_at dksX4_init_2 15 rfl rfl)
theorem dX4_init_63 : decode cX4_init 63 = .ok (.lshl, 1) := dk_121 (dk_at dksX4_init_2 16 rfl rfl)
theorem dX4_init_64 : decode cX4_init 64 = .ok (.putfield 29, 3) := dk_181 0 29 (dk_at dksX4_init_2 17 rfl rfl)
theorem dX4_init_67 : decode cX4_init 67 = .ok (.iload_n 1, 1) := dk_27 (dk_at dksX4_init_2 20 rfl rfl)
theorem dX4_init_68 : decode cX4_init 68 = .ok (.invokestatic 16, 3) := dk_184 0 16 (dk_at dksX4_init_2 21 rfl rfl)
theorem dX4_init_71 : decode cX4_init 71 = .ok (.lconst 1, 1) := dk_10 (dk_at dksX4_init_3 0 rfl rfl)
theorem dX4_init_72 : decode cX4_init 72 = .ok (.lsub, 1) := dk_101 (dk_at dksX4_init_3 1 rfl rfl)
theorem dX4_init_73 : decode cX4_init 73 = .ok (.lstore 5, 2) := dk_55 5 (dk_at dksX4_init_3 2 rfl rfl)
theorem dX4_init_75 : decode cX4_init 75 = .ok (.aload_n 0, 1) := dk_42 (dk_at dksX4_init_3 4 rfl rfl)
theorem dX4_init_76 : decode cX4_init 76 = .ok (.aload_n 0, 1) := dk_42 (dk_at dksX4_init_3 5 rfl rfl)
theorem dX4_init_77 : decode cX4_init 77 = .ok (.getfield 26, 3) := dk_180 0 26 (dk_at dksX4_init_3 6 rfl rfl)
theorem dX4_init_80 : decode cX4_init 80 = .ok (.aload_n 0, 1) := dk_42 (dk_at dksX4_init_3 9 rfl rfl)
theorem dX4_init_81 : decode cX4_init 81 = .ok (.getfield 29, 3) := dk_180 0 29 (dk_at dksX4_init_3 10 rfl rfl)
theorem dX4_init_84 : decode cX4_init 84 = .ok (.lor, 1) := dk_129 (dk_at dksX4_init_3 13 rfl rfl)
theorem dX4_init_85 : decode cX4_init 85 = .ok (.lload 5, 2) := dk_22 5 (dk_at dksX4_init_3 14 rfl rfl)
theorem dX4_init_87 : decode cX4_init 87 = .ok (.lor, 1) := dk_129 (dk_at dksX4_init_3 16 rfl rfl)
theorem dX4_init_88 : decode cX4_init 88 = .ok (.lload 5, 2) := dk_22 5 (dk_at dksX4_init_3 17 rfl rfl)
theorem dX4_init_90 : decode cX4_init 90 = .ok (.iload_n 1, 1) := dk_27 (dk_at dksX4_init_3 19 rfl rfl)
theorem dX4_init_91 : decode cX4_init 91 = .ok (.iload_n 2, 1) := dk_28 (dk_at dksX4_init_3 20 rfl rfl)
theorem dX4_init_92 : decode cX4_init 92 = .ok (.iconst 1, 1) := dk_4 (dk_at dksX4_init_3 21 rfl rfl)
theorem dX4_init_93 : decode cX4_init 93 = .ok (.isub, 1) := dk_100 (dk_at dksX4_init_3 22 rfl rfl)
theorem dX4_init_94 : decode cX4_init 94 = .ok (.imul, 1) := dk_104 (dk_at dksX4_init_3 23 rfl rfl)
theorem dX4_init_95 : decode cX4_init 95 = .ok (.lshl, 1) := dk_121 (dk_at dksX4_init_4 0 rfl rfl)
theorem dX4_init_96 : decode cX4_init 96 = .ok (.lor, 1) := dk_129 (dk_at dksX4_init_4 1 rfl rfl)
theorem dX4_init_97 : decode cX4_init 97 = .ok (.putfield 32, 3) := dk_181 0 32 (dk_at dksX4_init_4 2 rfl rfl)
theorem dX4_init_100 : decode cX4_init 100 = .ok (.return_, 1) := dk_177 (dk_at dksX4_init_4 5 rfl rfl)
abbrev cX4_handicap : ByteArray := prog_10_method_6_code
def yX4_handicap : MethodName := ⟨RX4, "handicap", "(I)J"⟩
def dkwX4_handicap_3 : List UInt8 := [162, 0, 19, 33, 44, 21, 5, 46, 184, 0, 16, 129, 66, 132, 5, 1, 167, 255, 237, 33, 173]
abbrev dktX4_handicap_3 : List UInt8 := dkwX4_handicap_3 ++ []
def dkwX4_handicap_2 : List UInt8 := [6, 42, 180, 0, 7, 42, 180, 0, 13, 5, 100, 104, 4, 96, 79, 77, 9, 66, 3, 54, 5, 21, 5, 27]
abbrev dktX4_handicap_2 : List UInt8 := dkwX4_handicap_2 ++ dktX4_handicap_3
def dkwX4_handicap_1 : List UInt8 := [104, 42, 180, 0, 7, 96, 5, 100, 79, 89, 5, 42, 180, 0, 7, 42, 180, 0, 7, 96, 5, 100, 79, 89]
abbrev dktX4_handicap_1 : List UInt8 := dkwX4_handicap_1 ++ dktX4_handicap_2
def dkwX4_handicap_0 : List UInt8 := [7, 188, 10, 89, 3, 42, 180, 0, 7, 4, 96, 79, 89, 4, 42, 180, 0, 7, 42, 180, 0, 13, 5, 100]
abbrev dktX4_handicap_0 : List UInt8 := dkwX4_handicap_0 ++ dktX4_handicap_1
theorem dksX4_handicap_0 : cX4_handicap.data.toList.drop 0 = dktX4_handicap_0 := by decide +kernel
theorem dksX4_handicap_1 : cX4_handicap.data.toList.drop 24 = dktX4_handicap_1 := dk_seg dksX4_handicap_0 24 rfl rfl
theorem dksX4_handicap_2 : cX4_handicap.data.toList.drop 48 = dktX4_handicap_2 := dk_seg dksX4_handicap_1 24 rfl rfl
theorem dksX4_handicap_3 : cX4_handicap.data.toList.drop 72 = dktX4_handicap_3 := dk_seg dksX4_handicap_2 24 rfl rfl
theorem dX4_handicap_0 : decode cX4_handicap 0 = .ok (.iconst 4, 1) := dk_7 (dk_at dksX4_handicap_0 0 rfl rfl)
theorem dX4_handicap_1 : decode cX4_handicap 1 = .ok (.newarray .int, 2) := dk_188_10 (dk_at dksX4_handicap_0 1 rfl rfl)
theorem dX4_handicap_3 : decode cX4_handicap 3 = .ok (.dup, 1) := dk_89 (dk_at dksX4_handicap_0 3 rfl rfl)
theorem dX4_handicap_4 : decode cX4_handicap 4 = .ok (.iconst 0, 1) := dk_3 (dk_at dksX4_handicap_0 4 rfl rfl)
theorem dX4_handicap_5 : decode cX4_handicap 5 = .ok (.aload_n 0, 1) := dk_42 (dk_at dksX4_handicap_0 5 rfl rfl)
theorem dX4_handicap_6 : decode cX4_handicap 6 = .ok (.getfield 7, 3) := dk_180 0 7 (dk_at dksX4_handicap_0 6 rfl rfl)
theorem dX4_handicap_9 : decode cX4_handicap 9 = .ok (.iconst 1, 1) := dk_4 (dk_at dksX4_handicap_0 9 rfl rfl)
theorem dX4_handicap_10 : decode cX4_handicap 10 = .ok (.iadd, 1) := dk_96 (dk_at dksX4_handicap_0 10 rfl rfl)
theorem dX4_handicap_11 : decode cX4_handicap 11 = .ok (.iastore, 1) := dk_79 (dk_at dksX4_handicap_0 11 rfl rfl)
theorem dX4_handicap_12 : decode cX4_handicap 12 = .ok (.dup, 1) := dk_89 (dk_at dksX4_handicap_0 12 rfl rfl)
theorem dX4_handicap_13 : decode cX4_handicap 13 = .ok (.iconst 1, 1) := dk_4 (dk_at dksX4_handicap_0 13 rfl rfl)
theorem dX4_handicap_14 : decode cX4_handicap 14 = .ok (.aload_n 0, 1) := dk_42 (dk_at dksX4_handicap_0 14 rfl rfl)
theorem dX4_handicap_15 : decode cX4_handicap 15 = .ok (.getfield 7, 3) := dk_180 0 7 (dk_at dksX4_handicap_0 15 rfl rfl)
theorem dX4_handicap_18 : decode cX4_handicap 18 = .ok (.aload_n 0, 1) := dk_42 (dk_at dksX4_handicap_0 18 rfl rfl)
theorem dX4_handicap_19 : decode cX4_handicap 19 = .ok (.getfield 13, 3) := dk_180 0 13 (dk_at dksX4_handicap_0 19 rfl rfl)
theorem dX4_handicap_22 : decode cX4_handicap 22 = .ok (.iconst 2, 1) := dk_5 (dk_at dksX4_handicap_0 22 rfl rfl)
theorem dX4_handicap_23 : decode cX4_handicap 23 = .ok (.isub, 1) := dk_100 (dk_at dksX4_handicap_0 23 rfl rfl)
theorem dX4_handicap_24 : decode cX4_handicap 24 = .ok (.imul, 1) := dk_104 (dk_at dksX4_handicap_1 0 rfl rfl)
theorem dX4_handicap_25 : decode cX4_handicap 25 = .ok (.aload_n 0, 1) := dk_42 (dk_at dksX4_handicap_1 1 rfl rfl)
theorem dX4_handicap_26 : decode cX4_handicap 26 = .ok (.getfield 7, 3) := dk_180 0 7 (dk_at dksX4_handicap_1 2 rfl rfl)
theorem dX4_handicap_29 : decode cX4_handicap 29 = .ok (.iadd, 1) := dk_96 (dk_at dksX4_handicap_1 5 rfl rfl)
theorem dX4_handicap_30 : decode cX4_handicap 30 = .ok (.iconst 2, 1) := dk_5 (dk_at dksX4_handicap_1 6 rfl rfl)
theorem dX4_handicap_31 : decode cX4_handicap 31 = .ok (.isub, 1) := dk_100 (dk_at dksX4_handicap_1 7 rfl rfl)
theorem dX4_handicap_32 : decode cX4_handicap 32 = .ok (.iastore, 1) := dk_79 (dk_at dksX4_handicap_1 8 rfl rfl)
theorem dX4_handicap_33 : decode cX4_handicap 33 = .ok (.dup, 1) := dk_89 (dk_at dksX4_handicap_1 9 rfl rfl)
theorem dX4_handicap_34 : decode cX4_handicap 34 = .ok (.iconst 2, 1) := dk_5 (dk_at dksX4_handicap_1 10 rfl rfl)
theorem dX4_handicap_35 : decode cX4_handicap 35 = .ok (.aload_n 0, 1) := dk_42 (dk_at dksX4_handicap_1 11 rfl rfl)
theorem dX4_handicap_36 : decode cX4_handicap 36 = .ok (.getfield 7, 3) := dk_180 0 7 (dk_at dksX4_handicap_1 12 rfl rfl)
theorem dX4_handicap_39 : decode cX4_handicap 39 = .ok (.aload_n 0, 1) := dk_42 (dk_at dksX4_handicap_1 15 rfl rfl)
theorem dX4_handicap_40 : decode cX4_handicap 40 = .ok (.getfield 7, 3) := dk_180 0 7 (dk_at dksX4_handicap_1 16 rfl rfl)
theorem dX4_handicap_43 : decode cX4_handicap 43 = .ok (.iadd, 1) := dk_96 (dk_at dksX4_handicap_1 19 rfl rfl)
theorem dX4_handicap_44 : decode cX4_handicap 44 = .ok (.iconst 2, 1) := dk_5 (dk_at dksX4_handicap_1 20 rfl rfl)
theorem dX4_handicap_45 : decode cX4_handicap 45 = .ok (.isub, 1) := dk_100 (dk_at dksX4_handicap_1 21 rfl rfl)
theorem dX4_handicap_46 : decode cX4_handicap 46 = .ok (.iastore, 1) := dk_79 (dk_at dksX4_handicap_1 22 rfl rfl)
theorem dX4_handicap_47 : decode cX4_handicap 47 = .ok (.dup, 1) := dk_89 (dk_at dksX4_handicap_1 23 rfl rfl)
theorem dX4_handicap_48 : decode cX4_handicap 48 = .ok (.iconst 3, 1) := dk_6 (dk_at dksX4_handicap_2 0 rfl rfl)
theorem dX4_handicap_49 : decode cX4_handicap 49 = .ok (.aload_n 0, 1) := dk_42 (dk_at dksX4_handicap_2 1 rfl rfl)
theorem dX4_handicap_50 : decode cX4_handicap 50 = .ok (.getfield 7, 3) := dk_180 0 7 (dk_at dksX4_handicap_2 2 rfl rfl)
theorem dX4_handicap_53 : decode cX4_handicap 53 = .ok (.aload_n 0, 1) := dk_42 (dk_at dksX4_handicap_2 5 rfl rfl)
theorem dX4_handicap_54 : decode cX4_handicap 54 = .ok (.getfield 13, 3) := dk_180 0 13 (dk_at dksX4_handicap_2 6 rfl rfl)
theorem dX4_handicap_57 : decode cX4_handicap 57 = .ok (.iconst 2, 1) := dk_5 (dk_at dksX4_handicap_2 9 rfl rfl)
theorem dX4_handicap_58 : decode cX4_handicap 58 = .ok (.isub, 1) := dk_100 (dk_at dksX4_handicap_2 10 rfl rfl)
theorem dX4_handicap_59 : decode cX4_handicap 59 = .ok (.imul, 1) := dk_104 (dk_at dksX4_handicap_2 11 rfl rfl)
theorem dX4_handicap_60 : decode cX4_handicap 60 = .ok (.iconst 1, 1) := dk_4 (dk_at dksX4_handicap_2 12 rfl rfl)
theorem dX4_handicap_61 : decode cX4_handicap 61 = .ok (.iadd, 1) := dk_96 (dk_at dksX4_handicap_2 13 rfl rfl)
theorem dX4_handicap_62 : decode cX4_handicap 62 = .ok (.iastore, 1) := dk_79 (dk_at dksX4_handicap_2 14 rfl rfl)
theorem dX4_handicap_63 : decode cX4_handicap 63 = .ok (.astore_n 2, 1) := dk_77 (dk_at dksX4_handicap_2 15 rfl rfl)
theorem dX4_handicap_64 : decode cX4_handicap 64 = .ok (.lconst 0, 1) := dk_9 (dk_at dksX4_handicap_2 16 rfl rfl)
theorem dX4_handicap_65 : decode cX4_handicap 65 = .ok (.lstore_n 3, 1) := dk_66 (dk_at dksX4_handicap_2 17 rfl rfl)
theorem dX4_handicap_66 : decode cX4_handicap 66 = .ok (.iconst 0, 1) := dk_3 (dk_at dksX4_handicap_2 18 rfl rfl)
theorem dX4_handicap_67 : decode cX4_handicap 67 = .ok (.istore 5, 2) := dk_54 5 (dk_at dksX4_handicap_2 19 rfl rfl)
theorem dX4_handicap_69 : decode cX4_handicap 69 = .ok (.iload 5, 2) := dk_21 5 (dk_at dksX4_handicap_2 21 rfl rfl)
theorem dX4_handicap_71 : decode cX4_handicap 71 = .ok (.iload_n 1, 1) := dk_27 (dk_at dksX4_handicap_2 23 rfl rfl)
theorem dX4_handicap_72 : decode cX4_handicap 72 = .ok (.if_icmp .ge 19, 3) := dk_162 0 19 (dk_at dksX4_handicap_3 0 rfl rfl)
theorem dX4_handicap_75 : decode cX4_handicap 75 = .ok (.lload_n 3, 1) := dk_33 (dk_at dksX4_handicap_3 3 rfl rfl)
theorem dX4_handicap_76 : decode cX4_handicap 76 = .ok (.aload_n 2, 1) := dk_44 (dk_at dksX4_handicap_3 4 rfl rfl)
theorem dX4_handicap_77 : decode cX4_handicap 77 = .ok (.iload 5, 2) := dk_21 5 (dk_at dksX4_handicap_3 5 rfl rfl)
theorem dX4_handicap_79 : decode cX4_handicap 79 = .ok (.iaload, 1) := dk_46 (dk_at dksX4_handicap_3 7 rfl rfl)
theorem dX4_handicap_80 : decode cX4_handicap 80 = .ok (.invokestatic 16, 3) := dk_184 0 16 (dk_at dksX4_handicap_3 8 rfl rfl)
theorem dX4_handicap_83 : decode cX4_handicap 83 = .ok (.lor, 1) := dk_129 (dk_at dksX4_handicap_3 11 rfl rfl)
theorem dX4_handicap_84 : decode cX4_handicap 84 = .ok (.lstore_n 3, 1) := dk_66 (dk_at dksX4_handicap_3 12 rfl rfl)
theorem dX4_handicap_85 : decode cX4_handicap 85 = .ok (.iinc 5 1, 3) := dk_132 5 1 (dk_at dksX4_handicap_3 13 rfl rfl)
theorem dX4_handicap_88 : decode cX4_handicap 88 = .ok (.goto (-19), 3) := dk_167 255 237 (dk_at dksX4_handicap_3 16 rfl rfl)
theorem dX4_handicap_91 : decode cX4_handicap 91 = .ok (.lload_n 3, 1) := dk_33 (dk_at dksX4_handicap_3 19 rfl rfl)
theorem dX4_handicap_92 : decode cX4_handicap 92 = .ok (.lreturn, 1) := dk_173 (dk_at dksX4_handicap_3 20 rfl rfl)
abbrev cX4_cells : ByteArray := prog_10_method_2_code
def yX4_cells : MethodName := ⟨RX4, "cells", "()I"⟩
def dkwX4_cells_0 : List UInt8 := [42, 180, 0, 7, 42, 180, 0, 13, 104, 172]
abbrev dktX4_cells_0 : List UInt8 := dkwX4_cells_0 ++ []
theorem dksX4_cells_0 : cX4_cells.data.toList.drop 0 = dktX4_cells_0 := by decide +kernel
theorem dX4_cells_0 : decode cX4_cells 0 = .ok (.aload_n 0, 1) := dk_42 (dk_at dksX4_cells_0 0 rfl rfl)
theorem dX4_cells_1 : decode cX4_cells 1 = .ok (.getfield 7, 3) := dk_180 0 7 (dk_at dksX4_cells_0 1 rfl rfl)
theorem dX4_cells_4 : decode cX4_cells 4 = .ok (.aload_n 0, 1) := dk_42 (dk_at dksX4_cells_0 4 rfl rfl)
theorem dX4_cells_5 : decode cX4_cells 5 = .ok (.getfield 13, 3) := dk_180 0 13 (dk_at dksX4_cells_0 5 rfl rfl)
theorem dX4_cells_8 : decode cX4_cells 8 = .ok (.imul, 1) := dk_104 (dk_at dksX4_cells_0 8 rfl rfl)
theorem dX4_cells_9 : decode cX4_cells 9 = .ok (.ireturn, 1) := dk_172 (dk_at dksX4_cells_0 9 rfl rfl)
abbrev cX4_connected : ByteArray := prog_10_method_4_code
def yX4_connected : MethodName := ⟨RX4, "connected", "(IJ)J"⟩
def dkwX4_connected_2 : List UInt8 := [22, 4, 173]
abbrev dktX4_connected_2 : List UInt8 := dkwX4_connected_2 ++ []
def dkwX4_connected_1 : List UInt8 := [153, 0, 23, 22, 6, 55, 4, 22, 4, 42, 22, 4, 182, 0, 37, 129, 32, 127, 55, 6, 167, 255, 231]
abbrev dktX4_connected_1 : List UInt8 := dkwX4_connected_1 ++ dktX4_connected_2
def dkwX4_connected_0 : List UInt8 := [27, 184, 0, 16, 55, 4, 22, 4, 42, 22, 4, 182, 0, 37, 129, 32, 127, 55, 6, 22, 6, 22, 4, 148]
abbrev dktX4_connected_0 : List UInt8 := dkwX4_connected_0 ++ dktX4_connected_1
theorem dksX4_connected_0 : cX4_connected.data.toList.drop 0 = dktX4_connected_0 := by decide +kernel
theorem dksX4_connected_1 : cX4_connected.data.toList.drop 24 = dktX4_connected_1 := dk_seg dksX4_connected_0 24 rfl rfl
theorem dksX4_connected_2 : cX4_connected.data.toList.drop 47 = dktX4_connected_2 := dk_seg dksX4_connected_1 23 rfl rfl
theorem dX4_connected_0 : decode cX4_connected 0 = .ok (.iload_n 1, 1) := dk_27 (dk_at dksX4_connected_0 0 rfl rfl)
theorem dX4_connected_1 : decode cX4_connected 1 = .ok (.invokestatic 16, 3) := dk_184 0 16 (dk_at dksX4_connected_0 1 rfl rfl)
theorem dX4_connected_4 : decode cX4_connected 4 = .ok (.lstore 4, 2) := dk_55 4 (dk_at dksX4_connected_0 4 rfl rfl)
theorem dX4_connected_6 : decode cX4_connected 6 = .ok (.lload 4, 2) := dk_22 4 (dk_at dksX4_connected_0 6 rfl rfl)
theorem dX4_connected_8 : decode cX4_connected 8 = .ok (.aload_n 0, 1) := dk_42 (dk_at dksX4_connected_0 8 rfl rfl)
theorem dX4_connected_9 : decode cX4_connected 9 = .ok (.lload 4, 2) := dk_22 4 (dk_at dksX4_connected_0 9 rfl rfl)
theorem dX4_connected_11 : decode cX4_connected 11 = .ok (.invokevirtual 37, 3) := dk_182 0 37 (dk_at dksX4_connected_0 11 rfl rfl)
theorem dX4_connected_14 : decode cX4_connected 14 = .ok (.lor, 1) := dk_129 (dk_at dksX4_connected_0 14 rfl rfl)
theorem dX4_connected_15 : decode cX4_connected 15 = .ok (.lload_n 2, 1) := dk_32 (dk_at dksX4_connected_0 15 rfl rfl)
theorem dX4_connected_16 : decode cX4_connected 16 = .ok (.land, 1) := dk_127 (dk_at dksX4_connected_0 16 rfl rfl)
theorem dX4_connected_17 : decode cX4_connected 17 = .ok (.lstore 6, 2) := dk_55 6 (dk_at dksX4_connected_0 17 rfl rfl)
theorem dX4_connected_19 : decode cX4_connected 19 = .ok (.lload 6, 2) := dk_22 6 (dk_at dksX4_connected_0 19 rfl rfl)
theorem dX4_connected_21 : decode cX4_connected 21 = .ok (.lload 4, 2) := dk_22 4 (dk_at dksX4_connected_0 21 rfl rfl)
theorem dX4_connected_23 : decode cX4_connected 23 = .ok (.lcmp, 1) := dk_148 (dk_at dksX4_connected_0 23 rfl rfl)
theorem dX4_connected_24 : decode cX4_connected 24 = .ok (.ifCond .eq 23, 3) := dk_153 0 23 (dk_at dksX4_connected_1 0 rfl rfl)
theorem dX4_connected_27 : decode cX4_connected 27 = .ok (.lload 6, 2) := dk_22 6 (dk_at dksX4_connected_1 3 rfl rfl)
theorem dX4_connected_29 : decode cX4_connected 29 = .ok (.lstore 4, 2) := dk_55 4 (dk_at dksX4_connected_1 5 rfl rfl)
theorem dX4_connected_31 : decode cX4_connected 31 = .ok (.lload 4, 2) := dk_22 4 (dk_at dksX4_connected_1 7 rfl rfl)
theorem dX4_connected_33 : decode cX4_connected 33 = .ok (.aload_n 0, 1) := dk_42 (dk_at dksX4_connected_1 9 rfl rfl)
theorem dX4_connected_34 : decode cX4_connected 34 = .ok (.lload 4, 2) := dk_22 4 (dk_at dksX4_connected_1 10 rfl rfl)
theorem dX4_connected_36 : decode cX4_connected 36 = .ok (.invokevirtual 37, 3) := dk_182 0 37 (dk_at dksX4_connected_1 12 rfl rfl)
theorem dX4_connected_39 : decode cX4_connected 39 = .ok (.lor, 1) := dk_129 (dk_at dksX4_connected_1 15 rfl rfl)
theorem dX4_connected_40 : decode cX4_connected 40 = .ok (.lload_n 2, 1) := dk_32 (dk_at dksX4_connected_1 16 rfl rfl)
theorem dX4_connected_41 : decode cX4_connected 41 = .ok (.land, 1) := dk_127 (dk_at dksX4_connected_1 17 rfl rfl)
theorem dX4_connected_42 : decode cX4_connected 42 = .ok (.lstore 6, 2) := dk_55 6 (dk_at dksX4_connected_1 18 rfl rfl)
theorem dX4_connected_44 : decode cX4_connected 44 = .ok (.goto (-25), 3) := dk_167 255 231 (dk_at dksX4_connected_1 20 rfl rfl)
theorem dX4_connected_47 : decode cX4_connected 47 = .ok (.lload 4, 2) := dk_22 4 (dk_at dksX4_connected_2 0 rfl rfl)
theorem dX4_connected_49 : decode cX4_connected 49 = .ok (.lreturn, 1) := dk_173 (dk_at dksX4_connected_2 2 rfl rfl)
abbrev cX4_around : ByteArray := prog_10_method_3_code
def yX4_around : MethodName := ⟨RX4, "around", "(J)J"⟩
def dkwX4_around_1 : List UInt8 := [129, 31, 42, 180, 0, 7, 125, 129, 31, 42, 180, 0, 7, 121, 42, 180, 0, 22, 127, 129, 173]
abbrev dktX4_around_1 : List UInt8 := dkwX4_around_1 ++ []
def dkwX4_around_0 : List UInt8 := [31, 42, 180, 0, 26, 20, 0, 35, 131, 127, 4, 125, 31, 42, 180, 0, 29, 20, 0, 35, 131, 127, 4, 121]
abbrev dktX4_around_0 : List UInt8 := dkwX4_around_0 ++ dktX4_around_1
theorem dksX4_around_0 : cX4_around.data.toList.drop 0 = dktX4_around_0 := by decide +kernel
theorem dksX4_around_1 : cX4_around.data.toList.drop 24 = dktX4_around_1 := dk_seg dksX4_around_0 24 rfl rfl
theorem dX4_around_0 : decode cX4_around 0 = .ok (.lload_n 1, 1) := dk_31 (dk_at dksX4_around_0 0 rfl rfl)
theorem dX4_around_1 : decode cX4_around 1 = .ok (.aload_n 0, 1) := dk_42 (dk_at dksX4_around_0 1 rfl rfl)
theorem dX4_around_2 : decode cX4_around 2 = .ok (.getfield 26, 3) := dk_180 0 26 (dk_at dksX4_around_0 2 rfl rfl)
theorem dX4_around_5 : decode cX4_around 5 = .ok (.ldc2_w 35, 3) := dk_20 0 35 (dk_at dksX4_around_0 5 rfl rfl)
theorem dX4_around_8 : decode cX4_around 8 = .ok (.lxor, 1) := dk_131 (dk_at dksX4_around_0 8 rfl rfl)
theorem dX4_around_9 : decode cX4_around 9 = .ok (.land, 1) := dk_127 (dk_at dksX4_around_0 9 rfl rfl)
theorem dX4_around_10 : decode cX4_around 10 = .ok (.iconst 1, 1) := dk_4 (dk_at dksX4_around_0 10 rfl rfl)
theorem dX4_around_11 : decode cX4_around 11 = .ok (.lushr, 1) := dk_125 (dk_at dksX4_around_0 11 rfl rfl)
theorem dX4_around_12 : decode cX4_around 12 = .ok (.lload_n 1, 1) := dk_31 (dk_at dksX4_around_0 12 rfl rfl)
theorem dX4_around_13 : decode cX4_around 13 = .ok (.aload_n 0, 1) := dk_42 (dk_at dksX4_around_0 13 rfl rfl)
theorem dX4_around_14 : decode cX4_around 14 = .ok (.getfield 29, 3) := dk_180 0 29 (dk_at dksX4_around_0 14 rfl rfl)
theorem dX4_around_17 : decode cX4_around 17 = .ok (.ldc2_w 35, 3) := dk_20 0 35 (dk_at dksX4_around_0 17 rfl rfl)
theorem dX4_around_20 : decode cX4_around 20 = .ok (.lxor, 1) := dk_131 (dk_at dksX4_around_0 20 rfl rfl)
theorem dX4_around_21 : decode cX4_around 21 = .ok (.land, 1) := dk_127 (dk_at dksX4_around_0 21 rfl rfl)
theorem dX4_around_22 : decode cX4_around 22 = .ok (.iconst 1, 1) := dk_4 (dk_at dksX4_around_0 22 rfl rfl)
theorem dX4_around_23 : decode cX4_around 23 = .ok (.lshl, 1) := dk_121 (dk_at dksX4_around_0 23 rfl rfl)
theorem dX4_around_24 : decode cX4_around 24 = .ok (.lor, 1) := dk_129 (dk_at dksX4_around_1 0 rfl rfl)
theorem dX4_around_25 : decode cX4_around 25 = .ok (.lload_n 1, 1) := dk_31 (dk_at dksX4_around_1 1 rfl rfl)
theorem dX4_around_26 : decode cX4_around 26 = .ok (.aload_n 0, 1) := dk_42 (dk_at dksX4_around_1 2 rfl rfl)
theorem dX4_around_27 : decode cX4_around 27 = .ok (.getfield 7, 3) := dk_180 0 7 (dk_at dksX4_around_1 3 rfl rfl)
theorem dX4_around_30 : decode cX4_around 30 = .ok (.lushr, 1) := dk_125 (dk_at dksX4_around_1 6 rfl rfl)
theorem dX4_around_31 : decode cX4_around 31 = .ok (.lor, 1) := dk_129 (dk_at dksX4_around_1 7 rfl rfl)
theorem dX4_around_32 : decode cX4_around 32 = .ok (.lload_n 1, 1) := dk_31 (dk_at dksX4_around_1 8 rfl rfl)
theorem dX4_around_33 : decode cX4_around 33 = .ok (.aload_n 0, 1) := dk_42 (dk_at dksX4_around_1 9 rfl rfl)
theorem dX4_around_34 : decode cX4_around 34 = .ok (.getfield 7, 3) := dk_180 0 7 (dk_at dksX4_around_1 10 rfl rfl)
theorem dX4_around_37 : decode cX4_around 37 = .ok (.lshl, 1) := dk_121 (dk_at dksX4_around_1 13 rfl rfl)
theorem dX4_around_38 : decode cX4_around 38 = .ok (.aload_n 0, 1) := dk_42 (dk_at dksX4_around_1 14 rfl rfl)
theorem dX4_around_39 : decode cX4_around 39 = .ok (.getfield 22, 3) := dk_180 0 22 (dk_at dksX4_around_1 15 rfl rfl)
theorem dX4_around_42 : decode cX4_around 42 = .ok (.land, 1) := dk_127 (dk_at dksX4_around_1 18 rfl rfl)
theorem dX4_around_43 : decode cX4_around 43 = .ok (.lor, 1) := dk_129 (dk_at dksX4_around_1 19 rfl rfl)
theorem dX4_around_44 : decode cX4_around 44 = .ok (.lreturn, 1) := dk_173 (dk_at dksX4_around_1 20 rfl rfl)
abbrev cX4_isInside : ByteArray := prog_10_method_5_code
def yX4_isInside : MethodName := ⟨RX4, "isInside", "(J)Z"⟩
def dkwX4_isInside_0 : List UInt8 := [31, 42, 180, 0, 32, 127, 9, 148, 154, 0, 7, 4, 167, 0, 4, 3, 172]
abbrev dktX4_isInside_0 : List UInt8 := dkwX4_isInside_0 ++ []
theorem dksX4_isInside_0 : cX4_isInside.data.toList.drop 0 = dktX4_isInside_0 := by decide +kernel
theorem dX4_isInside_0 : decode cX4_isInside 0 = .ok (.lload_n 1, 1) := dk_31 (dk_at dksX4_isInside_0 0 rfl rfl)
theorem dX4_isInside_1 : decode cX4_isInside 1 = .ok (.aload_n 0, 1) := dk_42 (dk_at dksX4_isInside_0 1 rfl rfl)
theorem dX4_isInside_2 : decode cX4_isInside 2 = .ok (.getfield 32, 3) := dk_180 0 32 (dk_at dksX4_isInside_0 2 rfl rfl)
theorem dX4_isInside_5 : decode cX4_isInside 5 = .ok (.land, 1) := dk_127 (dk_at dksX4_isInside_0 5 rfl rfl)
theorem dX4_isInside_6 : decode cX4_isInside 6 = .ok (.lconst 0, 1) := dk_9 (dk_at dksX4_isInside_0 6 rfl rfl)
theorem dX4_isInside_7 : decode cX4_isInside 7 = .ok (.lcmp, 1) := dk_148 (dk_at dksX4_isInside_0 7 rfl rfl)
theorem dX4_isInside_8 : decode cX4_isInside 8 = .ok (.ifCond .ne 7, 3) := dk_154 0 7 (dk_at dksX4_isInside_0 8 rfl rfl)
theorem dX4_isInside_11 : decode cX4_isInside 11 = .ok (.iconst 1, 1) := dk_4 (dk_at dksX4_isInside_0 11 rfl rfl)
theorem dX4_isInside_12 : decode cX4_isInside 12 = .ok (.goto 4, 3) := dk_167 0 4 (dk_at dksX4_isInside_0 12 rfl rfl)
theorem dX4_isInside_15 : decode cX4_isInside 15 = .ok (.iconst 0, 1) := dk_3 (dk_at dksX4_isInside_0 15 rfl rfl)
theorem dX4_isInside_16 : decode cX4_isInside 16 = .ok (.ireturn, 1) := dk_172 (dk_at dksX4_isInside_0 16 rfl rfl)
theorem q73 : (Jvm.Cond.initialized "EnclosureReferee$Shape") ∈ lw_all := lw_g (lw_at lw_m1 7 rfl) rfl
theorem q179 : (Jvm.Cond.instantiable "EnclosureReferee$Shape" (6 : Nat)) ∈ lw_all := lw_g (lw_at lw_m1 113 rfl) rfl
theorem q181 : (Jvm.Cond.instanceMethod ({ cls := "EnclosureReferee$Shape", name := "<init>", desc := "(II)V" } : Jvm.MethodName)) ∈ lw_all := lw_g (lw_at lw_m1 115 rfl) rfl
theorem q182 : (Jvm.Cond.code ({ cls := "EnclosureReferee$Shape", name := "<init>", desc := "(II)V" } : Jvm.MethodName) prog_10_method_1_code (7 : Nat) (Option.none : Option Jvm.ClassFile.FieldType)) ∈ lw_all := lw_g (lw_at lw_m1 116 rfl) rfl
theorem q183 : (Jvm.Cond.methodLink "EnclosureReferee$Shape" (1 : Nat) ({ cls := "java/lang/Object", name := "<init>", desc := "()V" } : Jvm.MethodName)) ∈ lw_all := lw_g (lw_at lw_m1 117 rfl) rfl
theorem q184 : (Jvm.Cond.methodLinkNest "EnclosureReferee$Shape" (16 : Nat) ({ cls := "EnclosureReferee", name := "bit", desc := "(I)J" } : Jvm.MethodName) "EnclosureReferee") ∈ lw_tbl := lw_at lw_m1 118 rfl
theorem q187 : (Jvm.Cond.fieldLink "EnclosureReferee$Shape" (7 : Nat) "EnclosureReferee$Shape" "width" "I") ∈ lw_all := lw_g (lw_at lw_m1 121 rfl) rfl
theorem q190 : (Jvm.Cond.fieldLink "EnclosureReferee$Shape" (13 : Nat) "EnclosureReferee$Shape" "height" "I") ∈ lw_all := lw_g (lw_at lw_m1 124 rfl) rfl
theorem q193 : (Jvm.Cond.fieldLink "EnclosureReferee$Shape" (22 : Nat) "EnclosureReferee$Shape" "all" "J") ∈ lw_all := lw_g (lw_at lw_m1 127 rfl) rfl
theorem q195 : (Jvm.Cond.fieldLink "EnclosureReferee$Shape" (26 : Nat) "EnclosureReferee$Shape" "left" "J") ∈ lw_all := lw_g (lw_at lw_m1 129 rfl) rfl
theorem q196 : (Jvm.Cond.fieldLink "EnclosureReferee$Shape" (29 : Nat) "EnclosureReferee$Shape" "right" "J") ∈ lw_all := lw_g (lw_at lw_m1 130 rfl) rfl
theorem q197 : (Jvm.Cond.fieldLink "EnclosureReferee$Shape" (32 : Nat) "EnclosureReferee$Shape" "edge" "J") ∈ lw_all := lw_g (lw_at lw_m1 131 rfl) rfl
theorem q198 : (Jvm.Cond.laysFinal "EnclosureReferee$Shape" "EnclosureReferee$Shape" "width" "I") ∈ lw_all := lw_g (lw_at lw_m1 132 rfl) rfl
theorem q199 : (Jvm.Cond.soleField "EnclosureReferee$Shape" "width") ∈ lw_all := lw_g (lw_at lw_m1 133 rfl) rfl
theorem q200 : (Jvm.Cond.laysFinal "EnclosureReferee$Shape" "EnclosureReferee$Shape" "height" "I") ∈ lw_all := lw_g (lw_at lw_m1 134 rfl) rfl
theorem q201 : (Jvm.Cond.soleField "EnclosureReferee$Shape" "height") ∈ lw_all := lw_g (lw_at lw_m1 135 rfl) rfl
theorem q202 : (Jvm.Cond.laysFinal "EnclosureReferee$Shape" "EnclosureReferee$Shape" "all" "J") ∈ lw_all := lw_g (lw_at lw_m1 136 rfl) rfl
theorem q203 : (Jvm.Cond.soleField "EnclosureReferee$Shape" "all") ∈ lw_all := lw_g (lw_at lw_m1 137 rfl) rfl
theorem q204 : (Jvm.Cond.laysFinal "EnclosureReferee$Shape" "EnclosureReferee$Shape" "left" "J") ∈ lw_all := lw_g (lw_at lw_m1 138 rfl) rfl
theorem q205 : (Jvm.Cond.soleField "EnclosureReferee$Shape" "left") ∈ lw_all := lw_g (lw_at lw_m1 139 rfl) rfl
theorem q206 : (Jvm.Cond.laysFinal "EnclosureReferee$Shape" "EnclosureReferee$Shape" "right" "J") ∈ lw_all := lw_g (lw_at lw_m1 140 rfl) rfl
theorem q207 : (Jvm.Cond.soleField "EnclosureReferee$Shape" "right") ∈ lw_all := lw_g (lw_at lw_m1 141 rfl) rfl
theorem q208 : (Jvm.Cond.laysFinal "EnclosureReferee$Shape" "EnclosureReferee$Shape" "edge" "J") ∈ lw_all := lw_g (lw_at lw_m1 142 rfl) rfl
theorem q209 : (Jvm.Cond.soleField "EnclosureReferee$Shape" "edge") ∈ lw_all := lw_g (lw_at lw_m1 143 rfl) rfl
theorem q210 : (Jvm.Cond.superclass "EnclosureReferee$Shape" "java/lang/Object") ∈ lw_all := lw_g (lw_at lw_m1 144 rfl) rfl
theorem q220 : (Jvm.Cond.instanceMethod ({ cls := "EnclosureReferee$Shape", name := "handicap", desc := "(I)J" } : Jvm.MethodName)) ∈ lw_all := lw_g (lw_at lw_m1 154 rfl) rfl
theorem q221 : (Jvm.Cond.selects "EnclosureReferee$Shape" ({ cls := "EnclosureReferee$Shape", name := "handicap", desc := "(I)J" } : Jvm.MethodName) ({ cls := "EnclosureReferee$Shape", name := "handicap", desc := "(I)J" } : Jvm.MethodName)) ∈ lw_all := lw_g (lw_at lw_m1 155 rfl) rfl
theorem q222 : (Jvm.Cond.code ({ cls := "EnclosureReferee$Shape", name := "handicap", desc := "(I)J" } : Jvm.MethodName) prog_10_method_6_code (6 : Nat) (Option.some Jvm.ClassFile.FieldType.long)) ∈ lw_all := lw_g (lw_at lw_m1 156 rfl) rfl
theorem q298 : (Jvm.Cond.selects "EnclosureReferee$Shape" ({ cls := "java/lang/Object", name := "getClass", desc := "()Ljava/lang/Class;" } : Jvm.MethodName) ({ cls := "java/lang/Object", name := "getClass", desc := "()Ljava/lang/Class;" } : Jvm.MethodName)) ∈ lw_all := lw_g (lw_at lw_m1 232 rfl) rfl
theorem q662 : (Jvm.Cond.instanceMethod ({ cls := "EnclosureReferee$Shape", name := "cells", desc := "()I" } : Jvm.MethodName)) ∈ lw_all := lw_g (lw_at lw_m3 116 rfl) rfl
theorem q663 : (Jvm.Cond.selects "EnclosureReferee$Shape" ({ cls := "EnclosureReferee$Shape", name := "cells", desc := "()I" } : Jvm.MethodName) ({ cls := "EnclosureReferee$Shape", name := "cells", desc := "()I" } : Jvm.MethodName)) ∈ lw_all := lw_g (lw_at lw_m3 117 rfl) rfl
theorem q664 : (Jvm.Cond.code ({ cls := "EnclosureReferee$Shape", name := "cells", desc := "()I" } : Jvm.MethodName) prog_10_method_2_code (1 : Nat) (Option.some Jvm.ClassFile.FieldType.int)) ∈ lw_all := lw_g (lw_at lw_m3 118 rfl) rfl
theorem q843 : (Jvm.Cond.instanceMethod ({ cls := "EnclosureReferee$Shape", name := "connected", desc := "(IJ)J" } : Jvm.MethodName)) ∈ lw_all := lw_g (lw_at lw_m4 57 rfl) rfl
theorem q844 : (Jvm.Cond.selects "EnclosureReferee$Shape" ({ cls := "EnclosureReferee$Shape", name := "connected", desc := "(IJ)J" } : Jvm.MethodName) ({ cls := "EnclosureReferee$Shape", name := "connected", desc := "(IJ)J" } : Jvm.MethodName)) ∈ lw_all := lw_g (lw_at lw_m4 58 rfl) rfl
theorem q845 : (Jvm.Cond.code ({ cls := "EnclosureReferee$Shape", name := "connected", desc := "(IJ)J" } : Jvm.MethodName) prog_10_method_4_code (8 : Nat) (Option.some Jvm.ClassFile.FieldType.long)) ∈ lw_all := lw_g (lw_at lw_m4 59 rfl) rfl
theorem q846 : (Jvm.Cond.methodLink "EnclosureReferee$Shape" (37 : Nat) ({ cls := "EnclosureReferee$Shape", name := "around", desc := "(J)J" } : Jvm.MethodName)) ∈ lw_all := lw_g (lw_at lw_m4 60 rfl) rfl
theorem q847 : (Jvm.Cond.privateMethod ({ cls := "EnclosureReferee$Shape", name := "around", desc := "(J)J" } : Jvm.MethodName)) ∈ lw_tbl := lw_at lw_m4 61 rfl
theorem q848 : (Jvm.Cond.instanceMethod ({ cls := "EnclosureReferee$Shape", name := "around", desc := "(J)J" } : Jvm.MethodName)) ∈ lw_all := lw_g (lw_at lw_m4 62 rfl) rfl
theorem q849 : (Jvm.Cond.code ({ cls := "EnclosureReferee$Shape", name := "around", desc := "(J)J" } : Jvm.MethodName) prog_10_method_3_code (3 : Nat) (Option.some Jvm.ClassFile.FieldType.long)) ∈ lw_all := lw_g (lw_at lw_m4 63 rfl) rfl
theorem q850 : (Jvm.Cond.constantLong "EnclosureReferee$Shape" (35 : Nat) (-1 : Int64)) ∈ lw_all := lw_g (lw_at lw_m4 64 rfl) rfl
theorem q852 : (Jvm.Cond.instanceMethod ({ cls := "EnclosureReferee$Shape", name := "isInside", desc := "(J)Z" } : Jvm.MethodName)) ∈ lw_all := lw_g (lw_at lw_m4 66 rfl) rfl
theorem q853 : (Jvm.Cond.selects "EnclosureReferee$Shape" ({ cls := "EnclosureReferee$Shape", name := "isInside", desc := "(J)Z" } : Jvm.MethodName) ({ cls := "EnclosureReferee$Shape", name := "isInside", desc := "(J)Z" } : Jvm.MethodName)) ∈ lw_all := lw_g (lw_at lw_m4 67 rfl) rfl
theorem q854 : (Jvm.Cond.code ({ cls := "EnclosureReferee$Shape", name := "isInside", desc := "(J)Z" } : Jvm.MethodName) prog_10_method_5_code (3 : Nat) (Option.some Jvm.ClassFile.FieldType.boolean)) ∈ lw_all := lw_g (lw_at lw_m4 68 rfl) rfl
theorem q1899 : (Jvm.Cond.castable "EnclosureReferee$Shape" "java/lang/Object") ∈ lw_tbl := lw_at lw_m8 153 rfl
theorem in_X4 : ∀ w ∈ wsX40, w ∈ lw_all := lw_in wsX40 [198, 200, 202, 204, 206, 208] (by decide +kernel) (by decide +kernel)
/-! EnclosureReferee$Round -/
set_option maxRecDepth 100000
def RX5 : String := "EnclosureReferee$Round"
def TX5 : u_T := fun k => match k with
  | 0 => ("EnclosureReferee$Round", "first", "I", true)
  | 1 => ("EnclosureReferee$Round", "second", "I", true)
  | 2 => ("EnclosureReferee$Round", "board", "LEnclosureReferee$Board;", true)
  | 3 => ("EnclosureReferee$Round", "waves", "[I", true)
  | 4 => ("EnclosureReferee$Round", "waveCount", "I", false)
  | 5 => ("EnclosureReferee$Round", "scores", "[I", true)
  | 6 => ("EnclosureReferee$Round", "rounds", "[I", true)
  | _ => ("EnclosureReferee$Round", "wavesOfCells", "[I", true)
def tyX5 : Nat → FieldType := fun k => match k with
  | 0 => .int
  | 1 => .int
  | 2 => .object "EnclosureReferee$Board"
  | 3 => .array .int
  | 4 => .int
  | 5 => .array .int
  | 6 => .array .int
  | _ => .array .int
abbrev wsX50 : List Cond := u_ws RX5 TX5 8
theorem nmX5 : ∀ a, a < 8 → ∀ b, b < 8 → a ≠ b → (TX5 a).2.1 ≠ (TX5 b).2.1 := by decide +kernel
theorem tyX5_ok : ∀ k, k < 8 → parseFieldDescriptor (TX5 k).2.2.1 = some (tyX5 k) := by decide +kernel
abbrev cX5_init : ByteArray := prog_8_method_1_code
def yX5_init : MethodName := ⟨RX5, "<init>", "(LEnclosureReferee$Shape;I)V"⟩
def dkwX5_init_4 : List UInt8 := [167, 255, 233, 177]
abbrev dktX5_init_4 : List UInt8 := dkwX5_init_4 ++ []
def dkwX5_init_3 : List UInt8 := [29, 16, 49, 162, 0, 23, 42, 180, 0, 25, 29, 2, 79, 42, 180, 0, 28, 29, 2, 79, 132, 3, 1]
abbrev dktX5_init_3 : List UInt8 := dkwX5_init_3 ++ dktX5_init_4
def dkwX5_init_2 : List UInt8 := [181, 0, 31, 42, 2, 181, 0, 35, 42, 180, 0, 12, 180, 0, 38, 4, 43, 28, 182, 0, 42, 80, 3, 62]
abbrev dktX5_init_2 : List UInt8 := dkwX5_init_2 ++ dktX5_init_3
def dkwX5_init_1 : List UInt8 := [5, 188, 10, 181, 0, 22, 42, 16, 49, 188, 10, 181, 0, 25, 42, 16, 49, 188, 10, 181, 0, 28, 42, 2]
abbrev dktX5_init_1 : List UInt8 := dkwX5_init_1 ++ dktX5_init_2
def dkwX5_init_0 : List UInt8 := [42, 183, 0, 3, 42, 187, 0, 9, 89, 183, 0, 11, 181, 0, 12, 42, 16, 8, 188, 10, 181, 0, 18, 42]
abbrev dktX5_init_0 : List UInt8 := dkwX5_init_0 ++ dktX5_init_1
theorem dksX5_init_0 : cX5_init.data.toList.drop 0 = dktX5_init_0 := by decide +kernel
theorem dksX5_init_1 : cX5_init.data.toList.drop 24 = dktX5_init_1 := dk_seg dksX5_init_0 24 rfl rfl
theorem dksX5_init_2 : cX5_init.data.toList.drop 48 = dktX5_init_2 := dk_seg dksX5_init_1 24 rfl rfl
theorem dksX5_init_3 : cX5_init.data.toList.drop 72 = dktX5_init_3 := dk_seg dksX5_init_2 24 rfl rfl
theorem dksX5_init_4 : cX5_init.data.toList.drop 95 = dktX5_init_4 := dk_seg dksX5_init_3 23 rfl rfl
theorem dX5_init_0 : decode cX5_init 0 = .ok (.aload_n 0, 1) := dk_42 (dk_at dksX5_init_0 0 rfl rfl)
theorem dX5_init_1 : decode cX5_init 1 = .ok (.invokespecial 3, 3) := dk_183 0 3 (dk_at dksX5_init_0 1 rfl rfl)
theorem dX5_init_4 : decode cX5_init 4 = .ok (.aload_n 0, 1) := dk_42 (dk_at dksX5_init_0 4 rfl rfl)
theorem dX5_init_5 : decode cX5_init 5 = .ok (.new 9, 3) := dk_187 0 9 (dk_at dksX5_init_0 5 rfl rfl)
theorem dX5_init_8 : decode cX5_init 8 = .ok (.dup, 1) := dk_89 (dk_at dksX5_init_0 8 rfl rfl)
theorem dX5_init_9 : decode cX5_init 9 = .ok (.invokespecial 11, 3) := dk_183 0 11 (dk_at dksX5_init_0 9 rfl rfl)
theorem dX5_init_12 : decode cX5_init 12 = .ok (.putfield 12, 3) := dk_181 0 12 (dk_at dksX5_init_0 12 rfl rfl)
theorem dX5_init_15 : decode cX5_init 15 = .ok (.aload_n 0, 1) := dk_42 (dk_at dksX5_init_0 15 rfl rfl)
theorem dX5_init_16 : decode cX5_init 16 = .ok (.bipush 8, 2) := dk_16 8 (dk_at dksX5_init_0 16 rfl rfl)
theorem dX5_init_18 : decode cX5_init 18 = .ok (.newarray .int, 2) := dk_188_10 (dk_at dksX5_init_0 18 rfl rfl)
theorem dX5_init_20 : decode cX5_init 20 = .ok (.putfield 18, 3) := dk_181 0 18 (dk_at dksX5_init_0 20 rfl rfl)
theorem dX5_init_23 : decode cX5_init 23 = .ok (.aload_n 0, 1) := dk_42 (dk_at dksX5_init_0 23 rfl rfl)
theorem dX5_init_24 : decode cX5_init 24 = .ok (.iconst 2, 1) := dk_5 (dk_at dksX5_init_1 0 rfl rfl)
theorem dX5_init_25 : decode cX5_init 25 = .ok (.newarray .int, 2) := dk_188_10 (dk_at dksX5_init_1 1 rfl rfl)
theorem dX5_init_27 : decode cX5_init 27 = .ok (.putfield 22, 3) := dk_181 0 22 (dk_at dksX5_init_1 3 rfl rfl)
theorem dX5_init_30 : decode cX5_init 30 = .ok (.aload_n 0, 1) := dk_42 (dk_at dksX5_init_1 6 rfl rfl)
theorem dX5_init_31 : decode cX5_init 31 = .ok (.bipush 49, 2) := dk_16 49 (dk_at dksX5_init_1 7 rfl rfl)
theorem dX5_init_33 : decode cX5_init 33 = .ok (.newarray .int, 2) := dk_188_10 (dk_at dksX5_init_1 9 rfl rfl)
theorem dX5_init_35 : decode cX5_init 35 = .ok (.putfield 25, 3) := dk_181 0 25 (dk_at dksX5_init_1 11 rfl rfl)
theorem dX5_init_38 : decode cX5_init 38 = .ok (.aload_n 0, 1) := dk_42 (dk_at dksX5_init_1 14 rfl rfl)
theorem dX5_init_39 : decode cX5_init 39 = .ok (.bipush 49, 2) := dk_16 49 (dk_at dksX5_init_1 15 rfl rfl)
theorem dX5_init_41 : decode cX5_init 41 = .ok (.newarray .int, 2) := dk_188_10 (dk_at dksX5_init_1 17 rfl rfl)
theorem dX5_init_43 : decode cX5_init 43 = .ok (.putfield 28, 3) := dk_181 0 28 (dk_at dksX5_init_1 19 rfl rfl)
theorem dX5_init_46 : decode cX5_init 46 = .ok (.aload_n 0, 1) := dk_42 (dk_at dksX5_init_1 22 rfl rfl)
theorem dX5_init_47 : decode cX5_init 47 = .ok (.iconst (-1), 1) := dk_2 (dk_at dksX5_init_1 23 rfl rfl)
theorem dX5_init_48 : decode cX5_init 48 = .ok (.putfield 31, 3) := dk_181 0 31 (dk_at dksX5_init_2 0 rfl rfl)
theorem dX5_init_51 : decode cX5_init 51 = .ok (.aload_n 0, 1) := dk_42 (dk_at dksX5_init_2 3 rfl rfl)
theorem dX5_init_52 : decode cX5_init 52 = .ok (.iconst (-1), 1) := dk_2 (dk_at dksX5_init_2 4 rfl rfl)
theorem dX5_init_53 : decode cX5_init 53 = .ok (.putfield 35, 3) := dk_181 0 35 (dk_at dksX5_init_2 5 rfl rfl)
theorem dX5_init_56 : decode cX5_init 56 = .ok (.aload_n 0, 1) := dk_42 (dk_at dksX5_init_2 8 rfl rfl)
theorem dX5_init_57 : decode cX5_init 57 = .ok (.getfield 12, 3) := dk_180 0 12 (dk_at dksX5_init_2 9 rfl rfl)
theorem dX5_init_60 : decode cX5_init 60 = .ok (.getfield 38, 3) := dk_180 0 38 (dk_at dksX5_init_2 12 rfl rfl)
theorem dX5_init_63 : decode cX5_init 63 = .ok (.iconst 1, 1) := dk_4 (dk_at dksX5_init_2 15 rfl rfl)
theorem dX5_init_64 : decode cX5_init 64 = .ok (.aload_n 1, 1) := dk_43 (dk_at dksX5_init_2 16 rfl rfl)
theorem dX5_init_65 : decode cX5_init 65 = .ok (.iload_n 2, 1) := dk_28 (dk_at dksX5_init_2 17 rfl rfl)
theorem dX5_init_66 : decode cX5_init 66 = .ok (.invokevirtual 42, 3) := dk_182 0 42 (dk_at dksX5_init_2 18 rfl rfl)
theorem dX5_init_69 : decode cX5_init 69 = .ok (.lastore, 1) := dk_80 (dk_at dksX5_init_2 21 rfl rfl)
theorem dX5_init_70 : decode cX5_init 70 = .ok (.iconst 0, 1) := dk_3 (dk_at dksX5_init_2 22 rfl rfl)
theorem dX5_init_71 : decode cX5_init 71 = .ok (.istore_n 3, 1) := dk_62 (dk_at dksX5_init_2 23 rfl rfl)
theorem dX5_init_72 : decode cX5_init 72 = .ok (.iload_n 3, 1) := dk_29 (dk_at dksX5_init_3 0 rfl rfl)
theorem dX5_init_73 : decode cX5_init 73 = .ok (.bipush 49, 2) := dk_16 49 (dk_at dksX5_init_3 1 rfl rfl)
theorem dX5_init_75 : decode cX5_init 75 = .ok (.if_icmp .ge 23, 3) := dk_162 0 23 (dk_at dksX5_init_3 3 rfl rfl)
theorem dX5_init_78 : decode cX5_init 78 = .ok (.aload_n 0, 1) := dk_42 (dk_at dksX5_init_3 6 rfl rfl)
theorem dX5_init_79 : decode cX5_init 79 = .ok (.getfield 25, 3) := dk_180 0 25 (dk_at dksX5_init_3 7 rfl rfl)
theorem dX5_init_82 : decode cX5_init 82 = .ok (.iload_n 3, 1) := dk_29 (dk_at dksX5_init_3 10 rfl rfl)
theorem dX5_init_83 : decode cX5_init 83 = .ok (.iconst (-1), 1) := dk_2 (dk_at dksX5_init_3 11 rfl rfl)
theorem dX5_init_84 : decode cX5_init 84 = .ok (.iastore, 1) := dk_79 (dk_at dksX5_init_3 12 rfl rfl)
theorem dX5_init_85 : decode cX5_init 85 = .ok (.aload_n 0, 1) := dk_42 (dk_at dksX5_init_3 13 rfl rfl)
theorem dX5_init_86 : decode cX5_init 86 = .ok (.getfield 28, 3) := dk_180 0 28 (dk_at dksX5_init_3 14 rfl rfl)
theorem dX5_init_89 : decode cX5_init 89 = .ok (.iload_n 3, 1) := dk_29 (dk_at dksX5_init_3 17 rfl rfl)
theorem dX5_init_90 : decode cX5_init 90 = .ok (.iconst (-1), 1) := dk_2 (dk_at dksX5_init_3 18 rfl rfl)
theorem dX5_init_91 : decode cX5_init 91 = .ok (.iastore, 1) := dk_79 (dk_at dksX5_init_3 19 rfl rfl)
theorem dX5_init_92 : decode cX5_init 92 = .ok (.iinc 3 1, 3) := dk_132 3 1 (dk_at dksX5_init_3 20 rfl rfl)
theorem dX5_init_95 : decode cX5_init 95 = .ok (.goto (-23), 3) := dk_167 255 233 (dk_at dksX5_init_4 0 rfl rfl)
theorem dX5_init_98 : decode cX5_init 98 = .ok (.return_, 1) := dk_177 (dk_at dksX5_init_4 3 rfl rfl)
abbrev cX5_isEnd : ByteArray := prog_8_method_6_code
def yX5_isEnd : MethodName := ⟨RX5, "isEnd", "()Z"⟩
def dkwX5_isEnd_0 : List UInt8 := [42, 180, 0, 31, 2, 160, 0, 15, 42, 180, 0, 35, 2, 160, 0, 7, 4, 167, 0, 4, 3, 172]
abbrev dktX5_isEnd_0 : List UInt8 := dkwX5_isEnd_0 ++ []
theorem dksX5_isEnd_0 : cX5_isEnd.data.toList.drop 0 = dktX5_isEnd_0 := by decide +kernel
theorem dX5_isEnd_0 : decode cX5_isEnd 0 = .ok (.aload_n 0, 1) := dk_42 (dk_at dksX5_isEnd_0 0 rfl rfl)
theorem dX5_isEnd_1 : decode cX5_isEnd 1 = .ok (.getfield 31, 3) := dk_180 0 31 (dk_at dksX5_isEnd_0 1 rfl rfl)
theorem dX5_isEnd_4 : decode cX5_isEnd 4 = .ok (.iconst (-1), 1) := dk_2 (dk_at dksX5_isEnd_0 4 rfl rfl)
theorem dX5_isEnd_5 : decode cX5_isEnd 5 = .ok (.if_icmp .ne 15, 3) := dk_160 0 15 (dk_at dksX5_isEnd_0 5 rfl rfl)
theorem dX5_isEnd_8 : decode cX5_isEnd 8 = .ok (.aload_n 0, 1) := dk_42 (dk_at dksX5_isEnd_0 8 rfl rfl)
theorem dX5_isEnd_9 : decode cX5_isEnd 9 = .ok (.getfield 35, 3) := dk_180 0 35 (dk_at dksX5_isEnd_0 9 rfl rfl)
theorem dX5_isEnd_12 : decode cX5_isEnd 12 = .ok (.iconst (-1), 1) := dk_2 (dk_at dksX5_isEnd_0 12 rfl rfl)
theorem dX5_isEnd_13 : decode cX5_isEnd 13 = .ok (.if_icmp .ne 7, 3) := dk_160 0 7 (dk_at dksX5_isEnd_0 13 rfl rfl)
theorem dX5_isEnd_16 : decode cX5_isEnd 16 = .ok (.iconst 1, 1) := dk_4 (dk_at dksX5_isEnd_0 16 rfl rfl)
theorem dX5_isEnd_17 : decode cX5_isEnd 17 = .ok (.goto 4, 3) := dk_167 0 4 (dk_at dksX5_isEnd_0 17 rfl rfl)
theorem dX5_isEnd_20 : decode cX5_isEnd 20 = .ok (.iconst 0, 1) := dk_3 (dk_at dksX5_isEnd_0 20 rfl rfl)
theorem dX5_isEnd_21 : decode cX5_isEnd 21 = .ok (.ireturn, 1) := dk_172 (dk_at dksX5_isEnd_0 21 rfl rfl)
abbrev cX5_init_2 : ByteArray := prog_8_method_2_code
def yX5_init_2 : MethodName := ⟨RX5, "<init>", "(LEnclosureReferee$Round;II)V"⟩
def dkwX5_init_2_4 : List UInt8 := [184, 0, 52, 177]
abbrev dktX5_init_2_4 : List UInt8 := dkwX5_init_2_4 ++ []
def dkwX5_init_2_3 : List UInt8 := [42, 180, 0, 25, 3, 16, 49, 184, 0, 52, 43, 180, 0, 28, 3, 42, 180, 0, 28, 3, 16, 49]
abbrev dktX5_init_2_3 : List UInt8 := dkwX5_init_2_3 ++ dktX5_init_2_4
def dkwX5_init_2_2 : List UInt8 := [181, 0, 31, 42, 29, 181, 0, 35, 42, 180, 0, 12, 43, 180, 0, 12, 182, 0, 48, 43, 180, 0, 25, 3]
abbrev dktX5_init_2_2 : List UInt8 := dkwX5_init_2_2 ++ dktX5_init_2_3
def dkwX5_init_2_1 : List UInt8 := [5, 188, 10, 181, 0, 22, 42, 16, 49, 188, 10, 181, 0, 25, 42, 16, 49, 188, 10, 181, 0, 28, 42, 28]
abbrev dktX5_init_2_1 : List UInt8 := dkwX5_init_2_1 ++ dktX5_init_2_2
def dkwX5_init_2_0 : List UInt8 := [42, 183, 0, 3, 42, 187, 0, 9, 89, 183, 0, 11, 181, 0, 12, 42, 16, 8, 188, 10, 181, 0, 18, 42]
abbrev dktX5_init_2_0 : List UInt8 := dkwX5_init_2_0 ++ dktX5_init_2_1
theorem dksX5_init_2_0 : cX5_init_2.data.toList.drop 0 = dktX5_init_2_0 := by decide +kernel
theorem dksX5_init_2_1 : cX5_init_2.data.toList.drop 24 = dktX5_init_2_1 := dk_seg dksX5_init_2_0 24 rfl rfl
theorem dksX5_init_2_2 : cX5_init_2.data.toList.drop 48 = dktX5_init_2_2 := dk_seg dksX5_init_2_1 24 rfl rfl
theorem dksX5_init_2_3 : cX5_init_2.data.toList.drop 72 = dktX5_init_2_3 := dk_seg dksX5_init_2_2 24 rfl rfl
theorem dksX5_init_2_4 : cX5_init_2.data.toList.drop 94 = dktX5_init_2_4 := dk_seg dksX5_init_2_3 22 rfl rfl
theorem dX5_init_2_0 : decode cX5_init_2 0 = .ok (.aload_n 0, 1) := dk_42 (dk_at dksX5_init_2_0 0 rfl rfl)
theorem dX5_init_2_1 : decode cX5_init_2 1 = .ok (.invokespecial 3, 3) := dk_183 0 3 (dk_at dksX5_init_2_0 1 rfl rfl)
theorem dX5_init_2_4 : decode cX5_init_2 4 = .ok (.aload_n 0, 1) := dk_42 (dk_at dksX5_init_2_0 4 rfl rfl)
theorem dX5_init_2_5 : decode cX5_init_2 5 = .ok (.new 9, 3) := dk_187 0 9 (dk_at dksX5_init_2_0 5 rfl rfl)
theorem dX5_init_2_8 : decode cX5_init_2 8 = .ok (.dup, 1) := dk_89 (dk_at dksX5_init_2_0 8 rfl rfl)
theorem dX5_init_2_9 : decode cX5_init_2 9 = .ok (.invokespecial 11, 3) := dk_183 0 11 (dk_at dksX5_init_2_0 9 rfl rfl)
theorem dX5_init_2_12 : decode cX5_init_2 12 = .ok (.putfield 12, 3) := dk_181 0 12 (dk_at dksX5_init_2_0 12 rfl rfl)
theorem dX5_init_2_15 : decode cX5_init_2 15 = .ok (.aload_n 0, 1) := dk_42 (dk_at dksX5_init_2_0 15 rfl rfl)
theorem dX5_init_2_16 : decode cX5_init_2 16 = .ok (.bipush 8, 2) := dk_16 8 (dk_at dksX5_init_2_0 16 rfl rfl)
theorem dX5_init_2_18 : decode cX5_init_2 18 = .ok (.newarray .int, 2) := dk_188_10 (dk_at dksX5_init_2_0 18 rfl rfl)
theorem dX5_init_2_20 : decode cX5_init_2 20 = .ok (.putfield 18, 3) := dk_181 0 18 (dk_at dksX5_init_2_0 20 rfl rfl)
theorem dX5_init_2_23 : decode cX5_init_2 23 = .ok (.aload_n 0, 1) := dk_42 (dk_at dksX5_init_2_0 23 rfl rfl)
theorem dX5_init_2_24 : decode cX5_init_2 24 = .ok (.iconst 2, 1) := dk_5 (dk_at dksX5_init_2_1 0 rfl rfl)
theorem dX5_init_2_25 : decode cX5_init_2 25 = .ok (.newarray .int, 2) := dk_188_10 (dk_at dksX5_init_2_1 1 rfl rfl)
theorem dX5_init_2_27 : decode cX5_init_2 27 = .ok (.putfield 22, 3) := dk_181 0 22 (dk_at dksX5_init_2_1 3 rfl rfl)
theorem dX5_init_2_30 : decode cX5_init_2 30 = .ok (.aload_n 0, 1) := dk_42 (dk_at dksX5_init_2_1 6 rfl rfl)
theorem dX5_init_2_31 : decode cX5_init_2 31 = .ok (.bipush 49, 2) := dk_16 49 (dk_at dksX5_init_2_1 7 rfl rfl)
theorem dX5_init_2_33 : decode cX5_init_2 33 = .ok (.newarray .int, 2) := dk_188_10 (dk_at dksX5_init_2_1 9 rfl rfl)
theorem dX5_init_2_35 : decode cX5_init_2 35 = .ok (.putfield 25, 3) := dk_181 0 25 (dk_at dksX5_init_2_1 11 rfl rfl)
theorem dX5_init_2_38 : decode cX5_init_2 38 = .ok (.aload_n 0, 1) := dk_42 (dk_at dksX5_init_2_1 14 rfl rfl)
theorem dX5_init_2_39 : decode cX5_init_2 39 = .ok (.bipush 49, 2) := dk_16 49 (dk_at dksX5_init_2_1 15 rfl rfl)
theorem dX5_init_2_41 : decode cX5_init_2 41 = .ok (.newarray .int, 2) := dk_188_10 (dk_at dksX5_init_2_1 17 rfl rfl)
theorem dX5_init_2_43 : decode cX5_init_2 43 = .ok (.putfield 28, 3) := dk_181 0 28 (dk_at dksX5_init_2_1 19 rfl rfl)
theorem dX5_init_2_46 : decode cX5_init_2 46 = .ok (.aload_n 0, 1) := dk_42 (dk_at dksX5_init_2_1 22 rfl rfl)
theorem dX5_init_2_47 : decode cX5_init_2 47 = .ok (.iload_n 2, 1) := dk_28 (dk_at dksX5_init_2_1 23 rfl rfl)
theorem dX5_init_2_48 : decode cX5_init_2 48 = .ok (.putfield 31, 3) := dk_181 0 31 (dk_at dksX5_init_2_2 0 rfl rfl)
theorem dX5_init_2_51 : decode cX5_init_2 51 = .ok (.aload_n 0, 1) := dk_42 (dk_at dksX5_init_2_2 3 rfl rfl)
theorem dX5_init_2_52 : decode cX5_init_2 52 = .ok (.iload_n 3, 1) := dk_29 (dk_at dksX5_init_2_2 4 rfl rfl)
theorem dX5_init_2_53 : decode cX5_init_2 53 = .ok (.putfield 35, 3) := dk_181 0 35 (dk_at dksX5_init_2_2 5 rfl rfl)
theorem dX5_init_2_56 : decode cX5_init_2 56 = .ok (.aload_n 0, 1) := dk_42 (dk_at dksX5_init_2_2 8 rfl rfl)
theorem dX5_init_2_57 : decode cX5_init_2 57 = .ok (.getfield 12, 3) := dk_180 0 12 (dk_at dksX5_init_2_2 9 rfl rfl)
theorem dX5_init_2_60 : decode cX5_init_2 60 = .ok (.aload_n 1, 1) := dk_43 (dk_at dksX5_init_2_2 12 rfl rfl)
theorem dX5_init_2_61 : decode cX5_init_2 61 = .ok (.getfield 12, 3) := dk_180 0 12 (dk_at dksX5_init_2_2 13 rfl rfl)
theorem dX5_init_2_64 : decode cX5_init_2 64 = .ok (.invokevirtual 48, 3) := dk_182 0 48 (dk_at dksX5_init_2_2 16 rfl rfl)
theorem dX5_init_2_67 : decode cX5_init_2 67 = .ok (.aload_n 1, 1) := dk_43 (dk_at dksX5_init_2_2 19 rfl rfl)
theorem dX5_init_2_68 : decode cX5_init_2 68 = .ok (.getfield 25, 3) := dk_180 0 25 (dk_at dksX5_init_2_2 20 rfl rfl)
theorem dX5_init_2_71 : decode cX5_init_2 71 = .ok (.iconst 0, 1) := dk_3 (dk_at dksX5_init_2_2 23 rfl rfl)
theorem dX5_init_2_72 : decode cX5_init_2 72 = .ok (.aload_n 0, 1) := dk_42 (dk_at dksX5_init_2_3 0 rfl rfl)
theorem dX5_init_2_73 : decode cX5_init_2 73 = .ok (.getfield 25, 3) := dk_180 0 25 (dk_at dksX5_init_2_3 1 rfl rfl)
theorem dX5_init_2_76 : decode cX5_init_2 76 = .ok (.iconst 0, 1) := dk_3 (dk_at dksX5_init_2_3 4 rfl rfl)
theorem dX5_init_2_77 : decode cX5_init_2 77 = .ok (.bipush 49, 2) := dk_16 49 (dk_at dksX5_init_2_3 5 rfl rfl)
theorem dX5_init_2_79 : decode cX5_init_2 79 = .ok (.invokestatic 52, 3) := dk_184 0 52 (dk_at dksX5_init_2_3 7 rfl rfl)
theorem dX5_init_2_82 : decode cX5_init_2 82 = .ok (.aload_n 1, 1) := dk_43 (dk_at dksX5_init_2_3 10 rfl rfl)
theorem dX5_init_2_83 : decode cX5_init_2 83 = .ok (.getfield 28, 3) := dk_180 0 28 (dk_at dksX5_init_2_3 11 rfl rfl)
theorem dX5_init_2_86 : decode cX5_init_2 86 = .ok (.iconst 0, 1) := dk_3 (dk_at dksX5_init_2_3 14 rfl rfl)
theorem dX5_init_2_87 : decode cX5_init_2 87 = .ok (.aload_n 0, 1) := dk_42 (dk_at dksX5_init_2_3 15 rfl rfl)
theorem dX5_init_2_88 : decode cX5_init_2 88 = .ok (.getfield 28, 3) := dk_180 0 28 (dk_at dksX5_init_2_3 16 rfl rfl)
theorem dX5_init_2_91 : decode cX5_init_2 91 = .ok (.iconst 0, 1) := dk_3 (dk_at dksX5_init_2_3 19 rfl rfl)
theorem dX5_init_2_92 : decode cX5_init_2 92 = .ok (.bipush 49, 2) := dk_16 49 (dk_at dksX5_init_2_3 20 rfl rfl)
theorem dX5_init_2_94 : decode cX5_init_2 94 = .ok (.invokestatic 52, 3) := dk_184 0 52 (dk_at dksX5_init_2_4 0 rfl rfl)
theorem dX5_init_2_97 : decode cX5_init_2 97 = .ok (.return_, 1) := dk_177 (dk_at dksX5_init_2_4 3 rfl rfl)
abbrev cX5_play : ByteArray := prog_8_method_4_code
def yX5_play : MethodName := ⟨RX5, "play", "(LEnclosureReferee$Shape;II)V"⟩
def dkwX5_play_5 : List UInt8 := [162, 0, 14, 42, 180, 0, 12, 43, 182, 0, 76, 167, 0, 4, 3, 54, 6, 167, 255, 179, 177]
abbrev dktX5_play_5 : List UInt8 := dkwX5_play_5 ++ []
def dkwX5_play_4 : List UInt8 := [180, 0, 83, 21, 6, 79, 42, 89, 180, 0, 83, 4, 96, 181, 0, 83, 42, 180, 0, 83, 16, 8]
abbrev dktX5_play_4 : List UInt8 := dkwX5_play_4 ++ dktX5_play_5
def dkwX5_play_3 : List UInt8 := [47, 42, 180, 0, 12, 180, 0, 80, 4, 47, 129, 28, 42, 180, 0, 83, 182, 0, 72, 42, 180, 0, 18, 42]
abbrev dktX5_play_3 : List UInt8 := dkwX5_play_3 ++ dktX5_play_4
def dkwX5_play_2 : List UInt8 := [42, 180, 0, 12, 43, 182, 0, 76, 54, 6, 21, 6, 158, 0, 78, 42, 42, 180, 0, 12, 180, 0, 80, 3]
abbrev dktX5_play_2 : List UInt8 := dkwX5_play_2 ++ dktX5_play_3
def dkwX5_play_1 : List UInt8 := [182, 0, 66, 42, 22, 4, 42, 180, 0, 12, 43, 182, 0, 62, 20, 0, 70, 131, 127, 28, 2, 182, 0, 72]
abbrev dktX5_play_1 : List UInt8 := dkwX5_play_1 ++ dktX5_play_2
def dkwX5_play_0 : List UInt8 := [42, 180, 0, 12, 43, 182, 0, 62, 55, 4, 42, 180, 0, 12, 42, 180, 0, 31, 42, 180, 0, 35, 29]
abbrev dktX5_play_0 : List UInt8 := dkwX5_play_0 ++ dktX5_play_1
theorem dksX5_play_0 : cX5_play.data.toList.drop 0 = dktX5_play_0 := by decide +kernel
theorem dksX5_play_1 : cX5_play.data.toList.drop 23 = dktX5_play_1 := dk_seg dksX5_play_0 23 rfl rfl
theorem dksX5_play_2 : cX5_play.data.toList.drop 47 = dktX5_play_2 := dk_seg dksX5_play_1 24 rfl rfl
theorem dksX5_play_3 : cX5_play.data.toList.drop 71 = dktX5_play_3 := dk_seg dksX5_play_2 24 rfl rfl
theorem dksX5_play_4 : cX5_play.data.toList.drop 95 = dktX5_play_4 := dk_seg dksX5_play_3 24 rfl rfl
theorem dksX5_play_5 : cX5_play.data.toList.drop 117 = dktX5_play_5 := dk_seg dksX5_play_4 22 rfl rfl
theorem dX5_play_0 : decode cX5_play 0 = .ok (.aload_n 0, 1) := dk_42 (dk_at dksX5_play_0 0 rfl rfl)
theorem dX5_play_1 : decode cX5_play 1 = .ok (.getfield 12, 3) := dk_180 0 12 (dk_at dksX5_play_0 1 rfl rfl)
theorem dX5_play_4 : decode cX5_play 4 = .ok (.aload_n 1, 1) := dk_43 (dk_at dksX5_play_0 4 rfl rfl)
theorem dX5_play_5 : decode cX5_play 5 = .ok (.invokevirtual 62, 3) := dk_182 0 62 (dk_at dksX5_play_0 5 rfl rfl)
theorem dX5_play_8 : decode cX5_play 8 = .ok (.lstore 4, 2) := dk_55 4 (dk_at dksX5_play_0 8 rfl rfl)
theorem dX5_play_10 : decode cX5_play 10 = .ok (.aload_n 0, 1) := dk_42 (dk_at dksX5_play_0 10 rfl rfl)
theorem dX5_play_11 : decode cX5_play 11 = .ok (.getfield 12, 3) := dk_180 0 12 (dk_at dksX5_play_0 11 rfl rfl)
theorem dX5_play_14 : decode cX5_play 14 = .ok (.aload_n 0, 1) := dk_42 (dk_at dksX5_play_0 14 rfl rfl)
theorem dX5_play_15 : decode cX5_play 15 = .ok (.getfield 31, 3) := dk_180 0 31 (dk_at dksX5_play_0 15 rfl rfl)
theorem dX5_play_18 : decode cX5_play 18 = .ok (.aload_n 0, 1) := dk_42 (dk_at dksX5_play_0 18 rfl rfl)
theorem dX5_play_19 : decode cX5_play 19 = .ok (.getfield 35, 3) := dk_180 0 35 (dk_at dksX5_play_0 19 rfl rfl)
theorem dX5_play_22 : decode cX5_play 22 = .ok (.iload_n 3, 1) := dk_29 (dk_at dksX5_play_0 22 rfl rfl)
theorem dX5_play_23 : decode cX5_play 23 = .ok (.invokevirtual 66, 3) := dk_182 0 66 (dk_at dksX5_play_1 0 rfl rfl)
theorem dX5_play_26 : decode cX5_play 26 = .ok (.aload_n 0, 1) := dk_42 (dk_at dksX5_play_1 3 rfl rfl)
theorem dX5_play_27 : decode cX5_play 27 = .ok (.lload 4, 2) := dk_22 4 (dk_at dksX5_play_1 4 rfl rfl)
theorem dX5_play_29 : decode cX5_play 29 = .ok (.aload_n 0, 1) := dk_42 (dk_at dksX5_play_1 6 rfl rfl)
theorem dX5_play_30 : decode cX5_play 30 = .ok (.getfield 12, 3) := dk_180 0 12 (dk_at dksX5_play_1 7 rfl rfl)
theorem dX5_play_33 : decode cX5_play 33 = .ok (.aload_n 1, 1) := dk_43 (dk_at dksX5_play_1 10 rfl rfl)
theorem dX5_play_34 : decode cX5_play 34 = .ok (.invokevirtual 62, 3) := dk_182 0 62 (dk_at dksX5_play_1 11 rfl rfl)
theorem dX5_play_37 : decode cX5_play 37 = .ok (.ldc2_w 70, 3) := dk_20 0 70 (dk_at dksX5_play_1 14 rfl rfl)
theorem dX5_play_40 : decode cX5_play 40 = .ok (.lxor, 1) := dk_131 (dk_at dksX5_play_1 17 rfl rfl)
theorem dX5_play_41 : decode cX5_play 41 = .ok (.land, 1) := dk_127 (dk_at dksX5_play_1 18 rfl rfl)
theorem dX5_play_42 : decode cX5_play 42 = .ok (.iload_n 2, 1) := dk_28 (dk_at dksX5_play_1 19 rfl rfl)
theorem dX5_play_43 : decode cX5_play 43 = .ok (.iconst (-1), 1) := dk_2 (dk_at dksX5_play_1 20 rfl rfl)
theorem dX5_play_44 : decode cX5_play 44 = .ok (.invokevirtual 72, 3) := dk_182 0 72 (dk_at dksX5_play_1 21 rfl rfl)
theorem dX5_play_47 : decode cX5_play 47 = .ok (.aload_n 0, 1) := dk_42 (dk_at dksX5_play_2 0 rfl rfl)
theorem dX5_play_48 : decode cX5_play 48 = .ok (.getfield 12, 3) := dk_180 0 12 (dk_at dksX5_play_2 1 rfl rfl)
theorem dX5_play_51 : decode cX5_play 51 = .ok (.aload_n 1, 1) := dk_43 (dk_at dksX5_play_2 4 rfl rfl)
theorem dX5_play_52 : decode cX5_play 52 = .ok (.invokevirtual 76, 3) := dk_182 0 76 (dk_at dksX5_play_2 5 rfl rfl)
theorem dX5_play_55 : decode cX5_play 55 = .ok (.istore 6, 2) := dk_54 6 (dk_at dksX5_play_2 8 rfl rfl)
theorem dX5_play_57 : decode cX5_play 57 = .ok (.iload 6, 2) := dk_21 6 (dk_at dksX5_play_2 10 rfl rfl)
theorem dX5_play_59 : decode cX5_play 59 = .ok (.ifCond .le 78, 3) := dk_158 0 78 (dk_at dksX5_play_2 12 rfl rfl)
theorem dX5_play_62 : decode cX5_play 62 = .ok (.aload_n 0, 1) := dk_42 (dk_at dksX5_play_2 15 rfl rfl)
theorem dX5_play_63 : decode cX5_play 63 = .ok (.aload_n 0, 1) := dk_42 (dk_at dksX5_play_2 16 rfl rfl)
theorem dX5_play_64 : decode cX5_play 64 = .ok (.getfield 12, 3) := dk_180 0 12 (dk_at dksX5_play_2 17 rfl rfl)
theorem dX5_play_67 : decode cX5_play 67 = .ok (.getfield 80, 3) := dk_180 0 80 (dk_at dksX5_play_2 20 rfl rfl)
theorem dX5_play_70 : decode cX5_play 70 = .ok (.iconst 0, 1) := dk_3 (dk_at dksX5_play_2 23 rfl rfl)
theorem dX5_play_71 : decode cX5_play 71 = .ok (.laload, 1) := dk_47 (dk_at dksX5_play_3 0 rfl rfl)
theorem dX5_play_72 : decode cX5_play 72 = .ok (.aload_n 0, 1) := dk_42 (dk_at dksX5_play_3 1 rfl rfl)
theorem dX5_play_73 : decode cX5_play 73 = .ok (.getfield 12, 3) := dk_180 0 12 (dk_at dksX5_play_3 2 rfl rfl)
theorem dX5_play_76 : decode cX5_play 76 = .ok (.getfield 80, 3) := dk_180 0 80 (dk_at dksX5_play_3 5 rfl rfl)
theorem dX5_play_79 : decode cX5_play 79 = .ok (.iconst 1, 1) := dk_4 (dk_at dksX5_play_3 8 rfl rfl)
theorem dX5_play_80 : decode cX5_play 80 = .ok (.laload, 1) := dk_47 (dk_at dksX5_play_3 9 rfl rfl)
theorem dX5_play_81 : decode cX5_play 81 = .ok (.lor, 1) := dk_129 (dk_at dksX5_play_3 10 rfl rfl)
theorem dX5_play_82 : decode cX5_play 82 = .ok (.iload_n 2, 1) := dk_28 (dk_at dksX5_play_3 11 rfl rfl)
theorem dX5_play_83 : decode cX5_play 83 = .ok (.aload_n 0, 1) := dk_42 (dk_at dksX5_play_3 12 rfl rfl)
theorem dX5_play_84 : decode cX5_play 84 = .ok (.getfield 83, 3) := dk_180 0 83 (dk_at dksX5_play_3 13 rfl rfl)
theorem dX5_play_87 : decode cX5_play 87 = .ok (.invokevirtual 72, 3) := dk_182 0 72 (dk_at dksX5_play_3 16 rfl rfl)
theorem dX5_play_90 : decode cX5_play 90 = .ok (.aload_n 0, 1) := dk_42 (dk_at dksX5_play_3 19 rfl rfl)
theorem dX5_play_91 : decode cX5_play 91 = .ok (.getfield 18, 3) := dk_180 0 18 (dk_at dksX5_play_3 20 rfl rfl)
theorem dX5_play_94 : decode cX5_play 94 = .ok (.aload_n 0, 1) := dk_42 (dk_at dksX5_play_3 23 rfl rfl)
theorem dX5_play_95 : decode cX5_play 95 = .ok (.getfield 83, 3) := dk_180 0 83 (dk_at dksX5_play_4 0 rfl rfl)
theorem dX5_play_98 : decode cX5_play 98 = .ok (.iload 6, 2) := dk_21 6 (dk_at dksX5_play_4 3 rfl rfl)
theorem dX5_play_100 : decode cX5_play 100 = .ok (.iastore, 1) := dk_79 (dk_at dksX5_play_4 5 rfl rfl)
theorem dX5_play_101 : decode cX5_play 101 = .ok (.aload_n 0, 1) := dk_42 (dk_at dksX5_play_4 6 rfl rfl)
theorem dX5_play_102 : decode cX5_play 102 = .ok (.dup, 1) := dk_89 (dk_at dksX5_play_4 7 rfl rfl)
theorem dX5_play_103 : decode cX5_play 103 = .ok (.getfield 83, 3) := dk_180 0 83 (dk_at dksX5_play_4 8 rfl rfl)
theorem dX5_play_106 : decode cX5_play 106 = .ok (.iconst 1, 1) := dk_4 (dk_at dksX5_play_4 11 rfl rfl)
theorem dX5_play_107 : decode cX5_play 107 = .ok (.iadd, 1) := dk_96 (dk_at dksX5_play_4 12 rfl rfl)
theorem dX5_play_108 : decode cX5_play 108 = .ok (.putfield 83, 3) := dk_181 0 83 (dk_at dksX5_play_4 13 rfl rfl)
theorem dX5_play_111 : decode cX5_play 111 = .ok (.aload_n 0, 1) := dk_42 (dk_at dksX5_play_4 16 rfl rfl)
theorem dX5_play_112 : decode cX5_play 112 = .ok (.getfield 83, 3) := dk_180 0 83 (dk_at dksX5_play_4 17 rfl rfl)
theorem dX5_play_115 : decode cX5_play 115 = .ok (.bipush 8, 2) := dk_16 8 (dk_at dksX5_play_4 20 rfl rfl)
theorem dX5_play_117 : decode cX5_play 117 = .ok (.if_icmp .ge 14, 3) := dk_162 0 14 (dk_at dksX5_play_5 0 rfl rfl)
theorem dX5_play_120 : decode cX5_play 120 = .ok (.aload_n 0, 1) := dk_42 (dk_at dksX5_play_5 3 rfl rfl)
theorem dX5_play_121 : decode cX5_play 121 = .ok (.getfield 12, 3) := dk_180 0 12 (dk_at dksX5_play_5 4 rfl rfl)
theorem dX5_play_124 : decode cX5_play 124 = .ok (.aload_n 1, 1) := dk_43 (dk_at dksX5_play_5 7 rfl rfl)
theorem dX5_play_125 : decode cX5_play 125 = .ok (.invokevirtual 76, 3) := dk_182 0 76 (dk_at dksX5_play_5 8 rfl rfl)
theorem dX5_play_128 : decode cX5_play 128 = .ok (.goto 4, 3) := dk_167 0 4 (dk_at dksX5_play_5 11 rfl rfl)
theorem dX5_play_131 : decode cX5_play 131 = .ok (.iconst 0, 1) := dk_3 (dk_at dksX5_play_5 14 rfl rfl)
theorem dX5_play_132 : decode cX5_play 132 = .ok (.istore 6, 2) := dk_54 6 (dk_at dksX5_play_5 15 rfl rfl)
theorem dX5_play_134 : decode cX5_play 134 = .ok (.goto (-77), 3) := dk_167 255 179 (dk_at dksX5_play_5 17 rfl rfl)
theorem dX5_play_137 : decode cX5_play 137 = .ok (.return_, 1) := dk_177 (dk_at dksX5_play_5 20 rfl rfl)
abbrev cX5_note : ByteArray := prog_8_method_3_code
def yX5_note : MethodName := ⟨RX5, "note", "(JII)V"⟩
def dkwX5_note_3 : List UInt8 := [167, 255, 191, 177]
abbrev dktX5_note_3 : List UInt8 := dkwX5_note_3 ++ []
def dkwX5_note_2 : List UInt8 := [184, 0, 58, 153, 0, 8, 21, 4, 167, 0, 10, 42, 180, 0, 28, 21, 5, 46, 79, 132, 5, 1]
abbrev dktX5_note_2 : List UInt8 := dkwX5_note_2 ++ dktX5_note_3
def dkwX5_note_1 : List UInt8 := [153, 0, 7, 29, 167, 0, 10, 42, 180, 0, 25, 21, 5, 46, 79, 42, 180, 0, 28, 21, 5, 31, 21, 5]
abbrev dktX5_note_1 : List UInt8 := dkwX5_note_1 ++ dktX5_note_2
def dkwX5_note_0 : List UInt8 := [3, 54, 5, 21, 5, 16, 49, 162, 0, 64, 42, 180, 0, 25, 21, 5, 31, 21, 5, 184, 0, 58]
abbrev dktX5_note_0 : List UInt8 := dkwX5_note_0 ++ dktX5_note_1
theorem dksX5_note_0 : cX5_note.data.toList.drop 0 = dktX5_note_0 := by decide +kernel
theorem dksX5_note_1 : cX5_note.data.toList.drop 22 = dktX5_note_1 := dk_seg dksX5_note_0 22 rfl rfl
theorem dksX5_note_2 : cX5_note.data.toList.drop 46 = dktX5_note_2 := dk_seg dksX5_note_1 24 rfl rfl
theorem dksX5_note_3 : cX5_note.data.toList.drop 68 = dktX5_note_3 := dk_seg dksX5_note_2 22 rfl rfl
theorem dX5_note_0 : decode cX5_note 0 = .ok (.iconst 0, 1) := dk_3 (dk_at dksX5_note_0 0 rfl rfl)
theorem dX5_note_1 : decode cX5_note 1 = .ok (.istore 5, 2) := dk_54 5 (dk_at dksX5_note_0 1 rfl rfl)
theorem dX5_note_3 : decode cX5_note 3 = .ok (.iload 5, 2) := dk_21 5 (dk_at dksX5_note_0 3 rfl rfl)
theorem dX5_note_5 : decode cX5_note 5 = .ok (.bipush 49, 2) := dk_16 49 (dk_at dksX5_note_0 5 rfl rfl)
theorem dX5_note_7 : decode cX5_note 7 = .ok (.if_icmp .ge 64, 3) := dk_162 0 64 (dk_at dksX5_note_0 7 rfl rfl)
theorem dX5_note_10 : decode cX5_note 10 = .ok (.aload_n 0, 1) := dk_42 (dk_at dksX5_note_0 10 rfl rfl)
theorem dX5_note_11 : decode cX5_note 11 = .ok (.getfield 25, 3) := dk_180 0 25 (dk_at dksX5_note_0 11 rfl rfl)
theorem dX5_note_14 : decode cX5_note 14 = .ok (.iload 5, 2) := dk_21 5 (dk_at dksX5_note_0 14 rfl rfl)
theorem dX5_note_16 : decode cX5_note 16 = .ok (.lload_n 1, 1) := dk_31 (dk_at dksX5_note_0 16 rfl rfl)
theorem dX5_note_17 : decode cX5_note 17 = .ok (.iload 5, 2) := dk_21 5 (dk_at dksX5_note_0 17 rfl rfl)
theorem dX5_note_19 : decode cX5_note 19 = .ok (.invokestatic 58, 3) := dk_184 0 58 (dk_at dksX5_note_0 19 rfl rfl)
theorem dX5_note_22 : decode cX5_note 22 = .ok (.ifCond .eq 7, 3) := dk_153 0 7 (dk_at dksX5_note_1 0 rfl rfl)
theorem dX5_note_25 : decode cX5_note 25 = .ok (.iload_n 3, 1) := dk_29 (dk_at dksX5_note_1 3 rfl rfl)
theorem dX5_note_26 : decode cX5_note 26 = .ok (.goto 10, 3) := dk_167 0 10 (dk_at dksX5_note_1 4 rfl rfl)
theorem dX5_note_29 : decode cX5_note 29 = .ok (.aload_n 0, 1) := dk_42 (dk_at dksX5_note_1 7 rfl rfl)
theorem dX5_note_30 : decode cX5_note 30 = .ok (.getfield 25, 3) := dk_180 0 25 (dk_at dksX5_note_1 8 rfl rfl)
theorem dX5_note_33 : decode cX5_note 33 = .ok (.iload 5, 2) := dk_21 5 (dk_at dksX5_note_1 11 rfl rfl)
theorem dX5_note_35 : decode cX5_note 35 = .ok (.iaload, 1) := dk_46 (dk_at dksX5_note_1 13 rfl rfl)
theorem dX5_note_36 : decode cX5_note 36 = .ok (.iastore, 1) := dk_79 (dk_at dksX5_note_1 14 rfl rfl)
theorem dX5_note_37 : decode cX5_note 37 = .ok (.aload_n 0, 1) := dk_42 (dk_at dksX5_note_1 15 rfl rfl)
theorem dX5_note_38 : decode cX5_note 38 = .ok (.getfield 28, 3) := dk_180 0 28 (dk_at dksX5_note_1 16 rfl rfl)
theorem dX5_note_41 : decode cX5_note 41 = .ok (.iload 5, 2) := dk_21 5 (dk_at dksX5_note_1 19 rfl rfl)
theorem dX5_note_43 : decode cX5_note 43 = .ok (.lload_n 1, 1) := dk_31 (dk_at dksX5_note_1 21 rfl rfl)
theorem dX5_note_44 : decode cX5_note 44 = .ok (.iload 5, 2) := dk_21 5 (dk_at dksX5_note_1 22 rfl rfl)
theorem dX5_note_46 : decode cX5_note 46 = .ok (.invokestatic 58, 3) := dk_184 0 58 (dk_at dksX5_note_2 0 rfl rfl)
theorem dX5_note_49 : decode cX5_note 49 = .ok (.ifCond .eq 8, 3) := dk_153 0 8 (dk_at dksX5_note_2 3 rfl rfl)
theorem dX5_note_52 : decode cX5_note 52 = .ok (.iload 4, 2) := dk_21 4 (dk_at dksX5_note_2 6 rfl rfl)
theorem dX5_note_54 : decode cX5_note 54 = .ok (.goto 10, 3) := dk_167 0 10 (dk_at dksX5_note_2 8 rfl rfl)
theorem dX5_note_57 : decode cX5_note 57 = .ok (.aload_n 0, 1) := dk_42 (dk_at dksX5_note_2 11 rfl rfl)
theorem dX5_note_58 : decode cX5_note 58 = .ok (.getfield 28, 3) := dk_180 0 28 (dk_at dksX5_note_2 12 rfl rfl)
theorem dX5_note_61 : decode cX5_note 61 = .ok (.iload 5, 2) := dk_21 5 (dk_at dksX5_note_2 15 rfl rfl)
theorem dX5_note_63 : decode cX5_note 63 = .ok (.iaload, 1) := dk_46 (dk_at dksX5_note_2 17 rfl rfl)
theorem dX5_note_64 : decode cX5_note 64 = .ok (.iastore, 1) := dk_79 (dk_at dksX5_note_2 18 rfl rfl)
theorem dX5_note_65 : decode cX5_note 65 = .ok (.iinc 5 1, 3) := dk_132 5 1 (dk_at dksX5_note_2 19 rfl rfl)
theorem dX5_note_68 : decode cX5_note 68 = .ok (.goto (-65), 3) := dk_167 255 191 (dk_at dksX5_note_3 0 rfl rfl)
theorem dX5_note_71 : decode cX5_note 71 = .ok (.return_, 1) := dk_177 (dk_at dksX5_note_3 3 rfl rfl)
abbrev cX5_captures : ByteArray := prog_8_method_7_code
def yX5_captures : MethodName := ⟨RX5, "captures", "()I"⟩
def dkwX5_captures_1 : List UInt8 := [54, 5, 27, 21, 5, 96, 60, 132, 4, 1, 167, 255, 236, 27, 172]
abbrev dktX5_captures_1 : List UInt8 := dkwX5_captures_1 ++ []
def dkwX5_captures_0 : List UInt8 := [3, 60, 42, 180, 0, 18, 77, 44, 190, 62, 3, 54, 4, 21, 4, 29, 162, 0, 20, 44, 21, 4, 46]
abbrev dktX5_captures_0 : List UInt8 := dkwX5_captures_0 ++ dktX5_captures_1
theorem dksX5_captures_0 : cX5_captures.data.toList.drop 0 = dktX5_captures_0 := by decide +kernel
theorem dksX5_captures_1 : cX5_captures.data.toList.drop 23 = dktX5_captures_1 := dk_seg dksX5_captures_0 23 rfl rfl
theorem dX5_captures_0 : decode cX5_captures 0 = .ok (.iconst 0, 1) := dk_3 (dk_at dksX5_captures_0 0 rfl rfl)
theorem dX5_captures_1 : decode cX5_captures 1 = .ok (.istore_n 1, 1) := dk_60 (dk_at dksX5_captures_0 1 rfl rfl)
theorem dX5_captures_2 : decode cX5_captures 2 = .ok (.aload_n 0, 1) := dk_42 (dk_at dksX5_captures_0 2 rfl rfl)
theorem dX5_captures_3 : decode cX5_captures 3 = .ok (.getfield 18, 3) := dk_180 0 18 (dk_at dksX5_captures_0 3 rfl rfl)
theorem dX5_captures_6 : decode cX5_captures 6 = .ok (.astore_n 2, 1) := dk_77 (dk_at dksX5_captures_0 6 rfl rfl)
theorem dX5_captures_7 : decode cX5_captures 7 = .ok (.aload_n 2, 1) := dk_44 (dk_at dksX5_captures_0 7 rfl rfl)
theorem dX5_captures_8 : decode cX5_captures 8 = .ok (.arraylength, 1) := dk_190 (dk_at dksX5_captures_0 8 rfl rfl)
theorem dX5_captures_9 : decode cX5_captures 9 = .ok (.istore_n 3, 1) := dk_62 (dk_at dksX5_captures_0 9 rfl rfl)
theorem dX5_captures_10 : decode cX5_captures 10 = .ok (.iconst 0, 1) := dk_3 (dk_at dksX5_captures_0 10 rfl rfl)
theorem dX5_captures_11 : decode cX5_captures 11 = .ok (.istore 4, 2) := dk_54 4 (dk_at dksX5_captures_0 11 rfl rfl)
theorem dX5_captures_13 : decode cX5_captures 13 = .ok (.iload 4, 2) := dk_21 4 (dk_at dksX5_captures_0 13 rfl rfl)
theorem dX5_captures_15 : decode cX5_captures 15 = .ok (.iload_n 3, 1) := dk_29 (dk_at dksX5_captures_0 15 rfl rfl)
theorem dX5_captures_16 : decode cX5_captures 16 = .ok (.if_icmp .ge 20, 3) := dk_162 0 20 (dk_at dksX5_captures_0 16 rfl rfl)
theorem dX5_captures_19 : decode cX5_captures 19 = .ok (.aload_n 2, 1) := dk_44 (dk_at dksX5_captures_0 19 rfl rfl)
theorem dX5_captures_20 : decode cX5_captures 20 = .ok (.iload 4, 2) := dk_21 4 (dk_at dksX5_captures_0 20 rfl rfl)
theorem dX5_captures_22 : decode cX5_captures 22 = .ok (.iaload, 1) := dk_46 (dk_at dksX5_captures_0 22 rfl rfl)
theorem dX5_captures_23 : decode cX5_captures 23 = .ok (.istore 5, 2) := dk_54 5 (dk_at dksX5_captures_1 0 rfl rfl)
theorem dX5_captures_25 : decode cX5_captures 25 = .ok (.iload_n 1, 1) := dk_27 (dk_at dksX5_captures_1 2 rfl rfl)
theorem dX5_captures_26 : decode cX5_captures 26 = .ok (.iload 5, 2) := dk_21 5 (dk_at dksX5_captures_1 3 rfl rfl)
theorem dX5_captures_28 : decode cX5_captures 28 = .ok (.iadd, 1) := dk_96 (dk_at dksX5_captures_1 5 rfl rfl)
theorem dX5_captures_29 : decode cX5_captures 29 = .ok (.istore_n 1, 1) := dk_60 (dk_at dksX5_captures_1 6 rfl rfl)
theorem dX5_captures_30 : decode cX5_captures 30 = .ok (.iinc 4 1, 3) := dk_132 4 1 (dk_at dksX5_captures_1 7 rfl rfl)
theorem dX5_captures_33 : decode cX5_captures 33 = .ok (.goto (-20), 3) := dk_167 255 236 (dk_at dksX5_captures_1 10 rfl rfl)
theorem dX5_captures_36 : decode cX5_captures 36 = .ok (.iload_n 1, 1) := dk_27 (dk_at dksX5_captures_1 13 rfl rfl)
theorem dX5_captures_37 : decode cX5_captures 37 = .ok (.ireturn, 1) := dk_172 (dk_at dksX5_captures_1 14 rfl rfl)
abbrev cX5_part : ByteArray := prog_8_method_8_code
def yX5_part : MethodName := ⟨RX5, "part", "(I)I"⟩
def dkwX5_part_3 : List UInt8 := [180, 0, 83, 172, 42, 182, 0, 90, 172, 42, 180, 0, 22, 27, 8, 100, 46, 172]
abbrev dktX5_part_3 : List UInt8 := dkwX5_part_3 ++ []
def dkwX5_part_2 : List UInt8 := [42, 180, 0, 31, 172, 42, 180, 0, 35, 172, 42, 182, 0, 86, 153, 0, 7, 4, 167, 0, 4, 3, 172, 42]
abbrev dktX5_part_2 : List UInt8 := dkwX5_part_2 ++ dktX5_part_3
def dkwX5_part_1 : List UInt8 := [170, 0, 0, 0, 0, 0, 68, 0, 0, 0, 0, 0, 0, 0, 4, 0, 0, 0, 35, 0, 0, 0, 40, 0, 0, 0, 45, 0, 0, 0, 58, 0, 0, 0, 63]
abbrev dktX5_part_1 : List UInt8 := dkwX5_part_1 ++ dktX5_part_2
def dkwX5_part_0 : List UInt8 := [27]
abbrev dktX5_part_0 : List UInt8 := dkwX5_part_0 ++ dktX5_part_1
theorem dksX5_part_0 : cX5_part.data.toList.drop 0 = dktX5_part_0 := by decide +kernel
theorem dksX5_part_1 : cX5_part.data.toList.drop 1 = dktX5_part_1 := dk_seg dksX5_part_0 1 rfl rfl
theorem dksX5_part_2 : cX5_part.data.toList.drop 36 = dktX5_part_2 := dk_seg dksX5_part_1 35 rfl rfl
theorem dksX5_part_3 : cX5_part.data.toList.drop 60 = dktX5_part_3 := dk_seg dksX5_part_2 24 rfl rfl
theorem dX5_part_0 : decode cX5_part 0 = .ok (.iload_n 1, 1) := dk_27 (dk_at dksX5_part_0 0 rfl rfl)
theorem dX5_part_1 : decode cX5_part 1 = .ok (.tableswitch 68 0 4 #[35, 40, 45, 58, 63], 35) := by decide +kernel
theorem dX5_part_36 : decode cX5_part 36 = .ok (.aload_n 0, 1) := dk_42 (dk_at dksX5_part_2 0 rfl rfl)
theorem dX5_part_37 : decode cX5_part 37 = .ok (.getfield 31, 3) := dk_180 0 31 (dk_at dksX5_part_2 1 rfl rfl)
theorem dX5_part_40 : decode cX5_part 40 = .ok (.ireturn, 1) := dk_172 (dk_at dksX5_part_2 4 rfl rfl)
theorem dX5_part_41 : decode cX5_part 41 = .ok (.aload_n 0, 1) := dk_42 (dk_at dksX5_part_2 5 rfl rfl)
theorem dX5_part_42 : decode cX5_part 42 = .ok (.getfield 35, 3) := dk_180 0 35 (dk_at dksX5_part_2 6 rfl rfl)
theorem dX5_part_45 : decode cX5_part 45 = .ok (.ireturn, 1) := dk_172 (dk_at dksX5_part_2 9 rfl rfl)
theorem dX5_part_46 : decode cX5_part 46 = .ok (.aload_n 0, 1) := dk_42 (dk_at dksX5_part_2 10 rfl rfl)
theorem dX5_part_47 : decode cX5_part 47 = .ok (.invokevirtual 86, 3) := dk_182 0 86 (dk_at dksX5_part_2 11 rfl rfl)
theorem dX5_part_50 : decode cX5_part 50 = .ok (.ifCond .eq 7, 3) := dk_153 0 7 (dk_at dksX5_part_2 14 rfl rfl)
theorem dX5_part_53 : decode cX5_part 53 = .ok (.iconst 1, 1) := dk_4 (dk_at dksX5_part_2 17 rfl rfl)
theorem dX5_part_54 : decode cX5_part 54 = .ok (.goto 4, 3) := dk_167 0 4 (dk_at dksX5_part_2 18 rfl rfl)
theorem dX5_part_57 : decode cX5_part 57 = .ok (.iconst 0, 1) := dk_3 (dk_at dksX5_part_2 21 rfl rfl)
theorem dX5_part_58 : decode cX5_part 58 = .ok (.ireturn, 1) := dk_172 (dk_at dksX5_part_2 22 rfl rfl)
theorem dX5_part_59 : decode cX5_part 59 = .ok (.aload_n 0, 1) := dk_42 (dk_at dksX5_part_2 23 rfl rfl)
theorem dX5_part_60 : decode cX5_part 60 = .ok (.getfield 83, 3) := dk_180 0 83 (dk_at dksX5_part_3 0 rfl rfl)
theorem dX5_part_63 : decode cX5_part 63 = .ok (.ireturn, 1) := dk_172 (dk_at dksX5_part_3 3 rfl rfl)
theorem dX5_part_64 : decode cX5_part 64 = .ok (.aload_n 0, 1) := dk_42 (dk_at dksX5_part_3 4 rfl rfl)
theorem dX5_part_65 : decode cX5_part 65 = .ok (.invokevirtual 90, 3) := dk_182 0 90 (dk_at dksX5_part_3 5 rfl rfl)
theorem dX5_part_68 : decode cX5_part 68 = .ok (.ireturn, 1) := dk_172 (dk_at dksX5_part_3 8 rfl rfl)
theorem dX5_part_69 : decode cX5_part 69 = .ok (.aload_n 0, 1) := dk_42 (dk_at dksX5_part_3 9 rfl rfl)
theorem dX5_part_70 : decode cX5_part 70 = .ok (.getfield 22, 3) := dk_180 0 22 (dk_at dksX5_part_3 10 rfl rfl)
theorem dX5_part_73 : decode cX5_part 73 = .ok (.iload_n 1, 1) := dk_27 (dk_at dksX5_part_3 13 rfl rfl)
theorem dX5_part_74 : decode cX5_part 74 = .ok (.iconst 5, 1) := dk_8 (dk_at dksX5_part_3 14 rfl rfl)
theorem dX5_part_75 : decode cX5_part 75 = .ok (.isub, 1) := dk_100 (dk_at dksX5_part_3 15 rfl rfl)
theorem dX5_part_76 : decode cX5_part 76 = .ok (.iaload, 1) := dk_46 (dk_at dksX5_part_3 16 rfl rfl)
theorem dX5_part_77 : decode cX5_part 77 = .ok (.ireturn, 1) := dk_172 (dk_at dksX5_part_3 17 rfl rfl)
abbrev cX5_isClash : ByteArray := prog_8_method_5_code
def yX5_isClash : MethodName := ⟨RX5, "isClash", "()Z"⟩
def dkwX5_isClash_1 : List UInt8 := [172]
abbrev dktX5_isClash_1 : List UInt8 := dkwX5_isClash_1 ++ []
def dkwX5_isClash_0 : List UInt8 := [42, 180, 0, 31, 42, 180, 0, 35, 160, 0, 15, 42, 180, 0, 31, 2, 159, 0, 7, 4, 167, 0, 4, 3]
abbrev dktX5_isClash_0 : List UInt8 := dkwX5_isClash_0 ++ dktX5_isClash_1
theorem dksX5_isClash_0 : cX5_isClash.data.toList.drop 0 = dktX5_isClash_0 := by decide +kernel
theorem dksX5_isClash_1 : cX5_isClash.data.toList.drop 24 = dktX5_isClash_1 := dk_seg dksX5_isClash_0 24 rfl rfl
theorem dX5_isClash_0 : decode cX5_isClash 0 = .ok (.aload_n 0, 1) := dk_42 (dk_at dksX5_isClash_0 0 rfl rfl)
theorem dX5_isClash_1 : decode cX5_isClash 1 = .ok (.getfield 31, 3) := dk_180 0 31 (dk_at dksX5_isClash_0 1 rfl rfl)
theorem dX5_isClash_4 : decode cX5_isClash 4 = .ok (.aload_n 0, 1) := dk_42 (dk_at dksX5_isClash_0 4 rfl rfl)
theorem dX5_isClash_5 : decode cX5_isClash 5 = .ok (.getfield 35, 3) := dk_180 0 35 (dk_at dksX5_isClash_0 5 rfl rfl)
theorem dX5_isClash_8 : decode cX5_isClash 8 = .ok (.if_icmp .ne 15, 3) := dk_160 0 15 (dk_at dksX5_isClash_0 8 rfl rfl)
theorem dX5_isClash_11 : decode cX5_isClash 11 = .ok (.aload_n 0, 1) := dk_42 (dk_at dksX5_isClash_0 11 rfl rfl)
theorem dX5_isClash_12 : decode cX5_isClash 12 = .ok (.getfield 31, 3) := dk_180 0 31 (dk_at dksX5_isClash_0 12 rfl rfl)
theorem dX5_isClash_15 : decode cX5_isClash 15 = .ok (.iconst (-1), 1) := dk_2 (dk_at dksX5_isClash_0 15 rfl rfl)
theorem dX5_isClash_16 : decode cX5_isClash 16 = .ok (.if_icmp .eq 7, 3) := dk_159 0 7 (dk_at dksX5_isClash_0 16 rfl rfl)
theorem dX5_isClash_19 : decode cX5_isClash 19 = .ok (.iconst 1, 1) := dk_4 (dk_at dksX5_isClash_0 19 rfl rfl)
theorem dX5_isClash_20 : decode cX5_isClash 20 = .ok (.goto 4, 3) := dk_167 0 4 (dk_at dksX5_isClash_0 20 rfl rfl)
theorem dX5_isClash_23 : decode cX5_isClash 23 = .ok (.iconst 0, 1) := dk_3 (dk_at dksX5_isClash_0 23 rfl rfl)
theorem dX5_isClash_24 : decode cX5_isClash 24 = .ok (.ireturn, 1) := dk_172 (dk_at dksX5_isClash_1 0 rfl rfl)
theorem q74 : (Jvm.Cond.initialized "EnclosureReferee$Round") ∈ lw_all := lw_g (lw_at lw_m1 8 rfl) rfl
theorem q155 : (Jvm.Cond.fieldLinkNest "EnclosureReferee$Round" (38 : Nat) "EnclosureReferee$Board" "stones" "[J" "EnclosureReferee") ∈ lw_tbl := lw_at lw_m1 89 rfl
theorem q164 : (Jvm.Cond.fieldLinkNest "EnclosureReferee$Round" (80 : Nat) "EnclosureReferee$Board" "gained" "[J" "EnclosureReferee") ∈ lw_tbl := lw_at lw_m1 98 rfl
theorem q212 : (Jvm.Cond.instantiable "EnclosureReferee$Round" (8 : Nat)) ∈ lw_all := lw_g (lw_at lw_m1 146 rfl) rfl
theorem q214 : (Jvm.Cond.instanceMethod ({ cls := "EnclosureReferee$Round", name := "<init>", desc := "(LEnclosureReferee$Shape;I)V" } : Jvm.MethodName)) ∈ lw_all := lw_g (lw_at lw_m1 148 rfl) rfl
theorem q215 : (Jvm.Cond.code ({ cls := "EnclosureReferee$Round", name := "<init>", desc := "(LEnclosureReferee$Shape;I)V" } : Jvm.MethodName) prog_8_method_1_code (4 : Nat) (Option.none : Option Jvm.ClassFile.FieldType)) ∈ lw_all := lw_g (lw_at lw_m1 149 rfl) rfl
theorem q216 : (Jvm.Cond.methodLink "EnclosureReferee$Round" (3 : Nat) ({ cls := "java/lang/Object", name := "<init>", desc := "()V" } : Jvm.MethodName)) ∈ lw_all := lw_g (lw_at lw_m1 150 rfl) rfl
theorem q217 : (Jvm.Cond.classLink "EnclosureReferee$Round" (9 : Nat) "EnclosureReferee$Board") ∈ lw_all := lw_g (lw_at lw_m1 151 rfl) rfl
theorem q218 : (Jvm.Cond.methodLinkNest "EnclosureReferee$Round" (11 : Nat) ({ cls := "EnclosureReferee$Board", name := "<init>", desc := "()V" } : Jvm.MethodName) "EnclosureReferee") ∈ lw_tbl := lw_at lw_m1 152 rfl
theorem q219 : (Jvm.Cond.methodLink "EnclosureReferee$Round" (42 : Nat) ({ cls := "EnclosureReferee$Shape", name := "handicap", desc := "(I)J" } : Jvm.MethodName)) ∈ lw_all := lw_g (lw_at lw_m1 153 rfl) rfl
theorem q223 : (Jvm.Cond.fieldLink "EnclosureReferee$Round" (31 : Nat) "EnclosureReferee$Round" "first" "I") ∈ lw_all := lw_g (lw_at lw_m1 157 rfl) rfl
theorem q225 : (Jvm.Cond.fieldLink "EnclosureReferee$Round" (35 : Nat) "EnclosureReferee$Round" "second" "I") ∈ lw_all := lw_g (lw_at lw_m1 159 rfl) rfl
theorem q227 : (Jvm.Cond.fieldLink "EnclosureReferee$Round" (12 : Nat) "EnclosureReferee$Round" "board" "LEnclosureReferee$Board;") ∈ lw_all := lw_g (lw_at lw_m1 161 rfl) rfl
theorem q229 : (Jvm.Cond.fieldLink "EnclosureReferee$Round" (18 : Nat) "EnclosureReferee$Round" "waves" "[I") ∈ lw_all := lw_g (lw_at lw_m1 163 rfl) rfl
theorem q231 : (Jvm.Cond.fieldLink "EnclosureReferee$Round" (83 : Nat) "EnclosureReferee$Round" "waveCount" "I") ∈ lw_all := lw_g (lw_at lw_m1 165 rfl) rfl
theorem q232 : (Jvm.Cond.fieldLink "EnclosureReferee$Round" (22 : Nat) "EnclosureReferee$Round" "scores" "[I") ∈ lw_all := lw_g (lw_at lw_m1 166 rfl) rfl
theorem q235 : (Jvm.Cond.fieldLink "EnclosureReferee$Round" (25 : Nat) "EnclosureReferee$Round" "rounds" "[I") ∈ lw_all := lw_g (lw_at lw_m1 169 rfl) rfl
theorem q238 : (Jvm.Cond.fieldLink "EnclosureReferee$Round" (28 : Nat) "EnclosureReferee$Round" "wavesOfCells" "[I") ∈ lw_all := lw_g (lw_at lw_m1 172 rfl) rfl
theorem q241 : (Jvm.Cond.laysFinal "EnclosureReferee$Round" "EnclosureReferee$Round" "first" "I") ∈ lw_all := lw_g (lw_at lw_m1 175 rfl) rfl
theorem q242 : (Jvm.Cond.soleField "EnclosureReferee$Round" "first") ∈ lw_all := lw_g (lw_at lw_m1 176 rfl) rfl
theorem q243 : (Jvm.Cond.laysFinal "EnclosureReferee$Round" "EnclosureReferee$Round" "second" "I") ∈ lw_all := lw_g (lw_at lw_m1 177 rfl) rfl
theorem q244 : (Jvm.Cond.soleField "EnclosureReferee$Round" "second") ∈ lw_all := lw_g (lw_at lw_m1 178 rfl) rfl
theorem q245 : (Jvm.Cond.laysFinal "EnclosureReferee$Round" "EnclosureReferee$Round" "board" "LEnclosureReferee$Board;") ∈ lw_all := lw_g (lw_at lw_m1 179 rfl) rfl
theorem q246 : (Jvm.Cond.soleField "EnclosureReferee$Round" "board") ∈ lw_all := lw_g (lw_at lw_m1 180 rfl) rfl
theorem q247 : (Jvm.Cond.laysFinal "EnclosureReferee$Round" "EnclosureReferee$Round" "waves" "[I") ∈ lw_all := lw_g (lw_at lw_m1 181 rfl) rfl
theorem q248 : (Jvm.Cond.soleField "EnclosureReferee$Round" "waves") ∈ lw_all := lw_g (lw_at lw_m1 182 rfl) rfl
theorem q249 : (Jvm.Cond.lays "EnclosureReferee$Round" "EnclosureReferee$Round" "waveCount" "I") ∈ lw_all := lw_g (lw_at lw_m1 183 rfl) rfl
theorem q250 : (Jvm.Cond.soleField "EnclosureReferee$Round" "waveCount") ∈ lw_all := lw_g (lw_at lw_m1 184 rfl) rfl
theorem q251 : (Jvm.Cond.laysFinal "EnclosureReferee$Round" "EnclosureReferee$Round" "scores" "[I") ∈ lw_all := lw_g (lw_at lw_m1 185 rfl) rfl
theorem q252 : (Jvm.Cond.soleField "EnclosureReferee$Round" "scores") ∈ lw_all := lw_g (lw_at lw_m1 186 rfl) rfl
theorem q253 : (Jvm.Cond.laysFinal "EnclosureReferee$Round" "EnclosureReferee$Round" "rounds" "[I") ∈ lw_all := lw_g (lw_at lw_m1 187 rfl) rfl
theorem q254 : (Jvm.Cond.soleField "EnclosureReferee$Round" "rounds") ∈ lw_all := lw_g (lw_at lw_m1 188 rfl) rfl
theorem q255 : (Jvm.Cond.laysFinal "EnclosureReferee$Round" "EnclosureReferee$Round" "wavesOfCells" "[I") ∈ lw_all := lw_g (lw_at lw_m1 189 rfl) rfl
theorem q256 : (Jvm.Cond.soleField "EnclosureReferee$Round" "wavesOfCells") ∈ lw_all := lw_g (lw_at lw_m1 190 rfl) rfl
theorem q257 : (Jvm.Cond.superclass "EnclosureReferee$Round" "java/lang/Object") ∈ lw_all := lw_g (lw_at lw_m1 191 rfl) rfl
theorem q296 : (Jvm.Cond.selects "EnclosureReferee$Round" ({ cls := "java/lang/Object", name := "getClass", desc := "()Ljava/lang/Class;" } : Jvm.MethodName) ({ cls := "java/lang/Object", name := "getClass", desc := "()Ljava/lang/Class;" } : Jvm.MethodName)) ∈ lw_all := lw_g (lw_at lw_m1 230 rfl) rfl
theorem q415 : (Jvm.Cond.instanceMethod ({ cls := "EnclosureReferee$Round", name := "isEnd", desc := "()Z" } : Jvm.MethodName)) ∈ lw_all := lw_g (lw_at lw_m2 109 rfl) rfl
theorem q416 : (Jvm.Cond.selects "EnclosureReferee$Round" ({ cls := "EnclosureReferee$Round", name := "isEnd", desc := "()Z" } : Jvm.MethodName) ({ cls := "EnclosureReferee$Round", name := "isEnd", desc := "()Z" } : Jvm.MethodName)) ∈ lw_all := lw_g (lw_at lw_m2 110 rfl) rfl
theorem q417 : (Jvm.Cond.code ({ cls := "EnclosureReferee$Round", name := "isEnd", desc := "()Z" } : Jvm.MethodName) prog_8_method_6_code (1 : Nat) (Option.some Jvm.ClassFile.FieldType.boolean)) ∈ lw_all := lw_g (lw_at lw_m2 111 rfl) rfl
theorem q792 : (Jvm.Cond.instanceMethod ({ cls := "EnclosureReferee$Round", name := "<init>", desc := "(LEnclosureReferee$Round;II)V" } : Jvm.MethodName)) ∈ lw_all := lw_g (lw_at lw_m4 6 rfl) rfl
theorem q793 : (Jvm.Cond.code ({ cls := "EnclosureReferee$Round", name := "<init>", desc := "(LEnclosureReferee$Round;II)V" } : Jvm.MethodName) prog_8_method_2_code (4 : Nat) (Option.none : Option Jvm.ClassFile.FieldType)) ∈ lw_all := lw_g (lw_at lw_m4 7 rfl) rfl
theorem q794 : (Jvm.Cond.methodLink "EnclosureReferee$Round" (48 : Nat) ({ cls := "EnclosureReferee$Board", name := "set", desc := "(LEnclosureReferee$Board;)V" } : Jvm.MethodName)) ∈ lw_all := lw_g (lw_at lw_m4 8 rfl) rfl
theorem q799 : (Jvm.Cond.methodLink "EnclosureReferee$Round" (52 : Nat) ({ cls := "java/lang/System", name := "arraycopy", desc := "(Ljava/lang/Object;ILjava/lang/Object;II)V" } : Jvm.MethodName)) ∈ lw_all := lw_g (lw_at lw_m4 13 rfl) rfl
theorem q814 : (Jvm.Cond.instanceMethod ({ cls := "EnclosureReferee$Round", name := "play", desc := "(LEnclosureReferee$Shape;II)V" } : Jvm.MethodName)) ∈ lw_all := lw_g (lw_at lw_m4 28 rfl) rfl
theorem q815 : (Jvm.Cond.selects "EnclosureReferee$Round" ({ cls := "EnclosureReferee$Round", name := "play", desc := "(LEnclosureReferee$Shape;II)V" } : Jvm.MethodName) ({ cls := "EnclosureReferee$Round", name := "play", desc := "(LEnclosureReferee$Shape;II)V" } : Jvm.MethodName)) ∈ lw_all := lw_g (lw_at lw_m4 29 rfl) rfl
theorem q816 : (Jvm.Cond.code ({ cls := "EnclosureReferee$Round", name := "play", desc := "(LEnclosureReferee$Shape;II)V" } : Jvm.MethodName) prog_8_method_4_code (7 : Nat) (Option.none : Option Jvm.ClassFile.FieldType)) ∈ lw_all := lw_g (lw_at lw_m4 30 rfl) rfl
theorem q817 : (Jvm.Cond.methodLink "EnclosureReferee$Round" (62 : Nat) ({ cls := "EnclosureReferee$Board", name := "empty", desc := "(LEnclosureReferee$Shape;)J" } : Jvm.MethodName)) ∈ lw_all := lw_g (lw_at lw_m4 31 rfl) rfl
theorem q818 : (Jvm.Cond.methodLink "EnclosureReferee$Round" (66 : Nat) ({ cls := "EnclosureReferee$Board", name := "place", desc := "(III)V" } : Jvm.MethodName)) ∈ lw_all := lw_g (lw_at lw_m4 32 rfl) rfl
theorem q823 : (Jvm.Cond.constantLong "EnclosureReferee$Round" (70 : Nat) (-1 : Int64)) ∈ lw_all := lw_g (lw_at lw_m4 37 rfl) rfl
theorem q824 : (Jvm.Cond.methodLink "EnclosureReferee$Round" (72 : Nat) ({ cls := "EnclosureReferee$Round", name := "note", desc := "(JII)V" } : Jvm.MethodName)) ∈ lw_all := lw_g (lw_at lw_m4 38 rfl) rfl
theorem q825 : (Jvm.Cond.privateMethod ({ cls := "EnclosureReferee$Round", name := "note", desc := "(JII)V" } : Jvm.MethodName)) ∈ lw_tbl := lw_at lw_m4 39 rfl
theorem q826 : (Jvm.Cond.instanceMethod ({ cls := "EnclosureReferee$Round", name := "note", desc := "(JII)V" } : Jvm.MethodName)) ∈ lw_all := lw_g (lw_at lw_m4 40 rfl) rfl
theorem q827 : (Jvm.Cond.code ({ cls := "EnclosureReferee$Round", name := "note", desc := "(JII)V" } : Jvm.MethodName) prog_8_method_3_code (6 : Nat) (Option.none : Option Jvm.ClassFile.FieldType)) ∈ lw_all := lw_g (lw_at lw_m4 41 rfl) rfl
theorem q828 : (Jvm.Cond.methodLinkNest "EnclosureReferee$Round" (58 : Nat) ({ cls := "EnclosureReferee", name := "has", desc := "(JI)Z" } : Jvm.MethodName) "EnclosureReferee") ∈ lw_tbl := lw_at lw_m4 42 rfl
theorem q829 : (Jvm.Cond.methodLink "EnclosureReferee$Round" (76 : Nat) ({ cls := "EnclosureReferee$Board", name := "wave", desc := "(LEnclosureReferee$Shape;)I" } : Jvm.MethodName)) ∈ lw_all := lw_g (lw_at lw_m4 43 rfl) rfl
theorem q856 : (Jvm.Cond.instanceMethod ({ cls := "EnclosureReferee$Round", name := "captures", desc := "()I" } : Jvm.MethodName)) ∈ lw_all := lw_g (lw_at lw_m4 70 rfl) rfl
theorem q857 : (Jvm.Cond.selects "EnclosureReferee$Round" ({ cls := "EnclosureReferee$Round", name := "captures", desc := "()I" } : Jvm.MethodName) ({ cls := "EnclosureReferee$Round", name := "captures", desc := "()I" } : Jvm.MethodName)) ∈ lw_all := lw_g (lw_at lw_m4 71 rfl) rfl
theorem q858 : (Jvm.Cond.code ({ cls := "EnclosureReferee$Round", name := "captures", desc := "()I" } : Jvm.MethodName) prog_8_method_7_code (6 : Nat) (Option.some Jvm.ClassFile.FieldType.int)) ∈ lw_all := lw_g (lw_at lw_m4 72 rfl) rfl
theorem q920 : (Jvm.Cond.instanceMethod ({ cls := "EnclosureReferee$Round", name := "part", desc := "(I)I" } : Jvm.MethodName)) ∈ lw_all := lw_g (lw_at lw_m4 134 rfl) rfl
theorem q921 : (Jvm.Cond.selects "EnclosureReferee$Round" ({ cls := "EnclosureReferee$Round", name := "part", desc := "(I)I" } : Jvm.MethodName) ({ cls := "EnclosureReferee$Round", name := "part", desc := "(I)I" } : Jvm.MethodName)) ∈ lw_all := lw_g (lw_at lw_m4 135 rfl) rfl
theorem q922 : (Jvm.Cond.code ({ cls := "EnclosureReferee$Round", name := "part", desc := "(I)I" } : Jvm.MethodName) prog_8_method_8_code (2 : Nat) (Option.some Jvm.ClassFile.FieldType.int)) ∈ lw_all := lw_g (lw_at lw_m4 136 rfl) rfl
theorem q923 : (Jvm.Cond.methodLink "EnclosureReferee$Round" (86 : Nat) ({ cls := "EnclosureReferee$Round", name := "isClash", desc := "()Z" } : Jvm.MethodName)) ∈ lw_all := lw_g (lw_at lw_m4 137 rfl) rfl
theorem q924 : (Jvm.Cond.instanceMethod ({ cls := "EnclosureReferee$Round", name := "isClash", desc := "()Z" } : Jvm.MethodName)) ∈ lw_all := lw_g (lw_at lw_m4 138 rfl) rfl
theorem q925 : (Jvm.Cond.selects "EnclosureReferee$Round" ({ cls := "EnclosureReferee$Round", name := "isClash", desc := "()Z" } : Jvm.MethodName) ({ cls := "EnclosureReferee$Round", name := "isClash", desc := "()Z" } : Jvm.MethodName)) ∈ lw_all := lw_g (lw_at lw_m4 139 rfl) rfl
theorem q926 : (Jvm.Cond.code ({ cls := "EnclosureReferee$Round", name := "isClash", desc := "()Z" } : Jvm.MethodName) prog_8_method_5_code (1 : Nat) (Option.some Jvm.ClassFile.FieldType.boolean)) ∈ lw_all := lw_g (lw_at lw_m4 140 rfl) rfl
theorem q927 : (Jvm.Cond.methodLink "EnclosureReferee$Round" (90 : Nat) ({ cls := "EnclosureReferee$Round", name := "captures", desc := "()I" } : Jvm.MethodName)) ∈ lw_all := lw_g (lw_at lw_m4 141 rfl) rfl
theorem q1900 : (Jvm.Cond.castable "EnclosureReferee$Round" "java/lang/Object") ∈ lw_tbl := lw_at lw_m8 154 rfl
theorem in_X5 : ∀ w ∈ wsX50, w ∈ lw_all := lw_in wsX50 [241, 243, 245, 247, 249, 251, 253, 255] (by decide +kernel) (by decide +kernel)
/-! EnclosureReferee$RefusedException -/
set_option maxRecDepth 100000
def RX7 : String := "EnclosureReferee$RefusedException"
abbrev cX7_levels : ByteArray := prog_7_method_3_code
def yX7_levels : MethodName := ⟨RX7, "levels", "()I"⟩
def dkwX7_levels_0 : List UInt8 := [3, 60, 42, 27, 182, 0, 22, 198, 0, 9, 132, 1, 1, 167, 255, 245, 27, 172]
abbrev dktX7_levels_0 : List UInt8 := dkwX7_levels_0 ++ []
theorem dksX7_levels_0 : cX7_levels.data.toList.drop 0 = dktX7_levels_0 := by decide +kernel
theorem dX7_levels_0 : decode cX7_levels 0 = .ok (.iconst 0, 1) := dk_3 (dk_at dksX7_levels_0 0 rfl rfl)
theorem dX7_levels_1 : decode cX7_levels 1 = .ok (.istore_n 1, 1) := dk_60 (dk_at dksX7_levels_0 1 rfl rfl)
theorem dX7_levels_2 : decode cX7_levels 2 = .ok (.aload_n 0, 1) := dk_42 (dk_at dksX7_levels_0 2 rfl rfl)
theorem dX7_levels_3 : decode cX7_levels 3 = .ok (.iload_n 1, 1) := dk_27 (dk_at dksX7_levels_0 3 rfl rfl)
theorem dX7_levels_4 : decode cX7_levels 4 = .ok (.invokevirtual 22, 3) := dk_182 0 22 (dk_at dksX7_levels_0 4 rfl rfl)
theorem dX7_levels_7 : decode cX7_levels 7 = .ok (.ifnull 9, 3) := dk_198 0 9 (dk_at dksX7_levels_0 7 rfl rfl)
theorem dX7_levels_10 : decode cX7_levels 10 = .ok (.iinc 1 1, 3) := dk_132 1 1 (dk_at dksX7_levels_0 10 rfl rfl)
theorem dX7_levels_13 : decode cX7_levels 13 = .ok (.goto (-11), 3) := dk_167 255 245 (dk_at dksX7_levels_0 13 rfl rfl)
theorem dX7_levels_16 : decode cX7_levels 16 = .ok (.iload_n 1, 1) := dk_27 (dk_at dksX7_levels_0 16 rfl rfl)
theorem dX7_levels_17 : decode cX7_levels 17 = .ok (.ireturn, 1) := dk_172 (dk_at dksX7_levels_0 17 rfl rfl)
abbrev cX7_at : ByteArray := prog_7_method_2_code
def yX7_at : MethodName := ⟨RX7, "at", "(I)LEnclosureReferee$RefusedException;"⟩
def dkwX7_at_1 : List UInt8 := [44, 193, 0, 8, 153, 0, 10, 44, 192, 0, 8, 167, 0, 4, 1, 176]
abbrev dktX7_at_1 : List UInt8 := dkwX7_at_1 ++ []
def dkwX7_at_0 : List UInt8 := [42, 77, 3, 62, 29, 27, 162, 0, 18, 44, 198, 0, 14, 44, 182, 0, 16, 77, 132, 3, 1, 167, 255, 239]
abbrev dktX7_at_0 : List UInt8 := dkwX7_at_0 ++ dktX7_at_1
theorem dksX7_at_0 : cX7_at.data.toList.drop 0 = dktX7_at_0 := by decide +kernel
theorem dksX7_at_1 : cX7_at.data.toList.drop 24 = dktX7_at_1 := dk_seg dksX7_at_0 24 rfl rfl
theorem dX7_at_0 : decode cX7_at 0 = .ok (.aload_n 0, 1) := dk_42 (dk_at dksX7_at_0 0 rfl rfl)
theorem dX7_at_1 : decode cX7_at 1 = .ok (.astore_n 2, 1) := dk_77 (dk_at dksX7_at_0 1 rfl rfl)
theorem dX7_at_2 : decode cX7_at 2 = .ok (.iconst 0, 1) := dk_3 (dk_at dksX7_at_0 2 rfl rfl)
theorem dX7_at_3 : decode cX7_at 3 = .ok (.istore_n 3, 1) := dk_62 (dk_at dksX7_at_0 3 rfl rfl)
theorem dX7_at_4 : decode cX7_at 4 = .ok (.iload_n 3, 1) := dk_29 (dk_at dksX7_at_0 4 rfl rfl)
theorem dX7_at_5 : decode cX7_at 5 = .ok (.iload_n 1, 1) := dk_27 (dk_at dksX7_at_0 5 rfl rfl)
theorem dX7_at_6 : decode cX7_at 6 = .ok (.if_icmp .ge 18, 3) := dk_162 0 18 (dk_at dksX7_at_0 6 rfl rfl)
theorem dX7_at_9 : decode cX7_at 9 = .ok (.aload_n 2, 1) := dk_44 (dk_at dksX7_at_0 9 rfl rfl)
theorem dX7_at_10 : decode cX7_at 10 = .ok (.ifnull 14, 3) := dk_198 0 14 (dk_at dksX7_at_0 10 rfl rfl)
theorem dX7_at_13 : decode cX7_at 13 = .ok (.aload_n 2, 1) := dk_44 (dk_at dksX7_at_0 13 rfl rfl)
theorem dX7_at_14 : decode cX7_at 14 = .ok (.invokevirtual 16, 3) := dk_182 0 16 (dk_at dksX7_at_0 14 rfl rfl)
theorem dX7_at_17 : decode cX7_at 17 = .ok (.astore_n 2, 1) := dk_77 (dk_at dksX7_at_0 17 rfl rfl)
theorem dX7_at_18 : decode cX7_at 18 = .ok (.iinc 3 1, 3) := dk_132 3 1 (dk_at dksX7_at_0 18 rfl rfl)
theorem dX7_at_21 : decode cX7_at 21 = .ok (.goto (-17), 3) := dk_167 255 239 (dk_at dksX7_at_0 21 rfl rfl)
theorem dX7_at_24 : decode cX7_at 24 = .ok (.aload_n 2, 1) := dk_44 (dk_at dksX7_at_1 0 rfl rfl)
theorem dX7_at_25 : decode cX7_at 25 = .ok (.instanceof 8, 3) := dk_193 0 8 (dk_at dksX7_at_1 1 rfl rfl)
theorem dX7_at_28 : decode cX7_at 28 = .ok (.ifCond .eq 10, 3) := dk_153 0 10 (dk_at dksX7_at_1 4 rfl rfl)
theorem dX7_at_31 : decode cX7_at 31 = .ok (.aload_n 2, 1) := dk_44 (dk_at dksX7_at_1 7 rfl rfl)
theorem dX7_at_32 : decode cX7_at 32 = .ok (.checkcast 8, 3) := dk_192 0 8 (dk_at dksX7_at_1 8 rfl rfl)
theorem dX7_at_35 : decode cX7_at 35 = .ok (.goto 4, 3) := dk_167 0 4 (dk_at dksX7_at_1 11 rfl rfl)
theorem dX7_at_38 : decode cX7_at 38 = .ok (.aconst_null, 1) := dk_1 (dk_at dksX7_at_1 14 rfl rfl)
theorem dX7_at_39 : decode cX7_at 39 = .ok (.areturn, 1) := dk_176 (dk_at dksX7_at_1 15 rfl rfl)
abbrev cX7_init : ByteArray := prog_7_method_1_code
def yX7_init : MethodName := ⟨RX7, "<init>", "(IILEnclosureReferee$RefusedException;)V"⟩
def dkwX7_init_0 : List UInt8 := [42, 1, 45, 3, 3, 183, 0, 1, 42, 27, 181, 0, 7, 42, 28, 181, 0, 13, 177]
abbrev dktX7_init_0 : List UInt8 := dkwX7_init_0 ++ []
theorem dksX7_init_0 : cX7_init.data.toList.drop 0 = dktX7_init_0 := by decide +kernel
theorem dX7_init_0 : decode cX7_init 0 = .ok (.aload_n 0, 1) := dk_42 (dk_at dksX7_init_0 0 rfl rfl)
theorem dX7_init_1 : decode cX7_init 1 = .ok (.aconst_null, 1) := dk_1 (dk_at dksX7_init_0 1 rfl rfl)
theorem dX7_init_2 : decode cX7_init 2 = .ok (.aload_n 3, 1) := dk_45 (dk_at dksX7_init_0 2 rfl rfl)
theorem dX7_init_3 : decode cX7_init 3 = .ok (.iconst 0, 1) := dk_3 (dk_at dksX7_init_0 3 rfl rfl)
theorem dX7_init_4 : decode cX7_init 4 = .ok (.iconst 0, 1) := dk_3 (dk_at dksX7_init_0 4 rfl rfl)
theorem dX7_init_5 : decode cX7_init 5 = .ok (.invokespecial 1, 3) := dk_183 0 1 (dk_at dksX7_init_0 5 rfl rfl)
theorem dX7_init_8 : decode cX7_init 8 = .ok (.aload_n 0, 1) := dk_42 (dk_at dksX7_init_0 8 rfl rfl)
theorem dX7_init_9 : decode cX7_init 9 = .ok (.iload_n 1, 1) := dk_27 (dk_at dksX7_init_0 9 rfl rfl)
theorem dX7_init_10 : decode cX7_init 10 = .ok (.putfield 7, 3) := dk_181 0 7 (dk_at dksX7_init_0 10 rfl rfl)
theorem dX7_init_13 : decode cX7_init 13 = .ok (.aload_n 0, 1) := dk_42 (dk_at dksX7_init_0 13 rfl rfl)
theorem dX7_init_14 : decode cX7_init 14 = .ok (.iload_n 2, 1) := dk_28 (dk_at dksX7_init_0 14 rfl rfl)
theorem dX7_init_15 : decode cX7_init 15 = .ok (.putfield 13, 3) := dk_181 0 13 (dk_at dksX7_init_0 15 rfl rfl)
theorem dX7_init_18 : decode cX7_init 18 = .ok (.return_, 1) := dk_177 (dk_at dksX7_init_0 18 rfl rfl)
abbrev cX7_part : ByteArray := prog_7_method_4_code
def yX7_part : MethodName := ⟨RX7, "part", "(I)I"⟩
def dkwX7_part_0 : List UInt8 := [27, 154, 0, 10, 42, 180, 0, 7, 167, 0, 7, 42, 180, 0, 13, 172]
abbrev dktX7_part_0 : List UInt8 := dkwX7_part_0 ++ []
theorem dksX7_part_0 : cX7_part.data.toList.drop 0 = dktX7_part_0 := by decide +kernel
theorem dX7_part_0 : decode cX7_part 0 = .ok (.iload_n 1, 1) := dk_27 (dk_at dksX7_part_0 0 rfl rfl)
theorem dX7_part_1 : decode cX7_part 1 = .ok (.ifCond .ne 10, 3) := dk_154 0 10 (dk_at dksX7_part_0 1 rfl rfl)
theorem dX7_part_4 : decode cX7_part 4 = .ok (.aload_n 0, 1) := dk_42 (dk_at dksX7_part_0 4 rfl rfl)
theorem dX7_part_5 : decode cX7_part 5 = .ok (.getfield 7, 3) := dk_180 0 7 (dk_at dksX7_part_0 5 rfl rfl)
theorem dX7_part_8 : decode cX7_part 8 = .ok (.goto 7, 3) := dk_167 0 7 (dk_at dksX7_part_0 8 rfl rfl)
theorem dX7_part_11 : decode cX7_part 11 = .ok (.aload_n 0, 1) := dk_42 (dk_at dksX7_part_0 11 rfl rfl)
theorem dX7_part_12 : decode cX7_part 12 = .ok (.getfield 13, 3) := dk_180 0 13 (dk_at dksX7_part_0 12 rfl rfl)
theorem dX7_part_15 : decode cX7_part 15 = .ok (.ireturn, 1) := dk_172 (dk_at dksX7_part_0 15 rfl rfl)
theorem q92 : (Jvm.Cond.initialized "EnclosureReferee$RefusedException") ∈ lw_all := lw_g (lw_at lw_m1 26 rfl) rfl
theorem q436 : (Jvm.Cond.instanceMethod ({ cls := "EnclosureReferee$RefusedException", name := "levels", desc := "()I" } : Jvm.MethodName)) ∈ lw_all := lw_g (lw_at lw_m2 130 rfl) rfl
theorem q437 : (Jvm.Cond.sameMethod "EnclosureReferee$RefusedException" "EnclosureReferee$RefusedException" "levels" "()I") ∈ lw_all := lw_g (lw_at lw_m2 131 rfl) rfl
theorem q442 : (Jvm.Cond.code ({ cls := "EnclosureReferee$RefusedException", name := "levels", desc := "()I" } : Jvm.MethodName) prog_7_method_3_code (2 : Nat) (Option.some Jvm.ClassFile.FieldType.int)) ∈ lw_all := lw_g (lw_at lw_m2 136 rfl) rfl
theorem q443 : (Jvm.Cond.methodLink "EnclosureReferee$RefusedException" (22 : Nat) ({ cls := "EnclosureReferee$RefusedException", name := "at", desc := "(I)LEnclosureReferee$RefusedException;" } : Jvm.MethodName)) ∈ lw_all := lw_g (lw_at lw_m2 137 rfl) rfl
theorem q444 : (Jvm.Cond.instanceMethod ({ cls := "EnclosureReferee$RefusedException", name := "at", desc := "(I)LEnclosureReferee$RefusedException;" } : Jvm.MethodName)) ∈ lw_all := lw_g (lw_at lw_m2 138 rfl) rfl
theorem q445 : (Jvm.Cond.sameMethod "EnclosureReferee$RefusedException" "EnclosureReferee$RefusedException" "at" "(I)LEnclosureReferee$RefusedException;") ∈ lw_all := lw_g (lw_at lw_m2 139 rfl) rfl
theorem q450 : (Jvm.Cond.code ({ cls := "EnclosureReferee$RefusedException", name := "at", desc := "(I)LEnclosureReferee$RefusedException;" } : Jvm.MethodName) prog_7_method_2_code (4 : Nat) (Option.some (Jvm.ClassFile.FieldType.object "EnclosureReferee$RefusedException"))) ∈ lw_all := lw_g (lw_at lw_m2 144 rfl) rfl
theorem q451 : (Jvm.Cond.methodLink "EnclosureReferee$RefusedException" (16 : Nat) ({ cls := "java/lang/Throwable", name := "getCause", desc := "()Ljava/lang/Throwable;" } : Jvm.MethodName)) ∈ lw_all := lw_g (lw_at lw_m2 145 rfl) rfl
theorem q466 : (Jvm.Cond.classLink "EnclosureReferee$RefusedException" (8 : Nat) "EnclosureReferee$RefusedException") ∈ lw_all := lw_g (lw_at lw_m2 160 rfl) rfl
theorem q721 : (Jvm.Cond.instanceMethod ({ cls := "EnclosureReferee$RefusedException", name := "<init>", desc := "(IILEnclosureReferee$RefusedException;)V" } : Jvm.MethodName)) ∈ lw_all := lw_g (lw_at lw_m3 175 rfl) rfl
theorem q722 : (Jvm.Cond.code ({ cls := "EnclosureReferee$RefusedException", name := "<init>", desc := "(IILEnclosureReferee$RefusedException;)V" } : Jvm.MethodName) prog_7_method_1_code (4 : Nat) (Option.none : Option Jvm.ClassFile.FieldType)) ∈ lw_all := lw_g (lw_at lw_m3 176 rfl) rfl
theorem q723 : (Jvm.Cond.methodLink "EnclosureReferee$RefusedException" (1 : Nat) ({ cls := "java/lang/Exception", name := "<init>", desc := "(Ljava/lang/String;Ljava/lang/Throwable;ZZ)V" } : Jvm.MethodName)) ∈ lw_all := lw_g (lw_at lw_m3 177 rfl) rfl
theorem q729 : (Jvm.Cond.fieldLink "EnclosureReferee$RefusedException" (7 : Nat) "EnclosureReferee$RefusedException" "code" "I") ∈ lw_all := lw_g (lw_at lw_m3 183 rfl) rfl
theorem q730 : (Jvm.Cond.fieldLink "EnclosureReferee$RefusedException" (13 : Nat) "EnclosureReferee$RefusedException" "detail" "I") ∈ lw_all := lw_g (lw_at lw_m3 184 rfl) rfl
theorem q732 : (Jvm.Cond.soleField "EnclosureReferee$RefusedException" "code") ∈ lw_all := lw_g (lw_at lw_m3 186 rfl) rfl
theorem q734 : (Jvm.Cond.soleField "EnclosureReferee$RefusedException" "detail") ∈ lw_all := lw_g (lw_at lw_m3 188 rfl) rfl
theorem q1106 : (Jvm.Cond.instanceMethod ({ cls := "EnclosureReferee$RefusedException", name := "part", desc := "(I)I" } : Jvm.MethodName)) ∈ lw_all := lw_g (lw_at lw_m5 80 rfl) rfl
theorem q1107 : (Jvm.Cond.sameMethod "EnclosureReferee$RefusedException" "EnclosureReferee$RefusedException" "part" "(I)I") ∈ lw_all := lw_g (lw_at lw_m5 81 rfl) rfl
theorem q1112 : (Jvm.Cond.code ({ cls := "EnclosureReferee$RefusedException", name := "part", desc := "(I)I" } : Jvm.MethodName) prog_7_method_4_code (2 : Nat) (Option.some Jvm.ClassFile.FieldType.int)) ∈ lw_all := lw_g (lw_at lw_m5 86 rfl) rfl
/-! EnclosureReferee$CellException -/
set_option maxRecDepth 100000
def RX8 : String := "EnclosureReferee$CellException"
def TX8 : u_T := fun k => match k with
  | 0 => ("EnclosureReferee$RefusedException", "code", "I", true)
  | 1 => ("EnclosureReferee$RefusedException", "detail", "I", true)
  | 2 => ("java/lang/Throwable", "cause", "Ljava/lang/Throwable;", false)
  | 3 => ("java/lang/Throwable", "stackTrace", "[Ljava/lang/StackTraceElement;", false)
  | 4 => ("java/lang/Throwable", "suppressedExceptions", "Ljava/util/List;", false)
  | 5 => ("java/lang/Throwable", "detailMessage", "Ljava/lang/String;", false)
  | 6 => ("java/lang/Throwable", "backtrace", "Ljava/lang/Object;", false)
  | _ => ("java/lang/Throwable", "depth", "I", false)
def tyX8 : Nat → FieldType := fun k => match k with
  | 0 => .int
  | 1 => .int
  | 2 => .object "java/lang/Throwable"
  | 3 => .array (.object "java/lang/StackTraceElement")
  | 4 => .object "java/util/List"
  | 5 => .object "java/lang/String"
  | 6 => .object "java/lang/Object"
  | _ => .int
abbrev wsX80 : List Cond := u_ws RX8 TX8 8
theorem nmX8 : ∀ a, a < 8 → ∀ b, b < 8 → a ≠ b → (TX8 a).2.1 ≠ (TX8 b).2.1 := by decide +kernel
theorem tyX8_ok : ∀ k, k < 8 → parseFieldDescriptor (TX8 k).2.2.1 = some (tyX8 k) := by decide +kernel
abbrev cX8_init : ByteArray := prog_3_method_1_code
def yX8_init : MethodName := ⟨RX8, "<init>", "(IILEnclosureReferee$WaveException;)V"⟩
def dkwX8_init_0 : List UInt8 := [42, 16, 10, 27, 96, 28, 45, 183, 0, 1, 177]
abbrev dktX8_init_0 : List UInt8 := dkwX8_init_0 ++ []
theorem dksX8_init_0 : cX8_init.data.toList.drop 0 = dktX8_init_0 := by decide +kernel
theorem dX8_init_0 : decode cX8_init 0 = .ok (.aload_n 0, 1) := dk_42 (dk_at dksX8_init_0 0 rfl rfl)
theorem dX8_init_1 : decode cX8_init 1 = .ok (.bipush 10, 2) := dk_16 10 (dk_at dksX8_init_0 1 rfl rfl)
theorem dX8_init_3 : decode cX8_init 3 = .ok (.iload_n 1, 1) := dk_27 (dk_at dksX8_init_0 3 rfl rfl)
theorem dX8_init_4 : decode cX8_init 4 = .ok (.iadd, 1) := dk_96 (dk_at dksX8_init_0 4 rfl rfl)
theorem dX8_init_5 : decode cX8_init 5 = .ok (.iload_n 2, 1) := dk_28 (dk_at dksX8_init_0 5 rfl rfl)
theorem dX8_init_6 : decode cX8_init 6 = .ok (.aload_n 3, 1) := dk_45 (dk_at dksX8_init_0 6 rfl rfl)
theorem dX8_init_7 : decode cX8_init 7 = .ok (.invokespecial 1, 3) := dk_183 0 1 (dk_at dksX8_init_0 7 rfl rfl)
theorem dX8_init_10 : decode cX8_init 10 = .ok (.return_, 1) := dk_177 (dk_at dksX8_init_0 10 rfl rfl)
theorem q93 : (Jvm.Cond.initialized "EnclosureReferee$CellException") ∈ lw_all := lw_g (lw_at lw_m1 27 rfl) rfl
theorem q292 : (Jvm.Cond.selects "EnclosureReferee$CellException" ({ cls := "java/lang/Object", name := "getClass", desc := "()Ljava/lang/Class;" } : Jvm.MethodName) ({ cls := "java/lang/Object", name := "getClass", desc := "()Ljava/lang/Class;" } : Jvm.MethodName)) ∈ lw_all := lw_g (lw_at lw_m1 226 rfl) rfl
theorem q438 : (Jvm.Cond.selects "EnclosureReferee$CellException" ({ cls := "EnclosureReferee$RefusedException", name := "levels", desc := "()I" } : Jvm.MethodName) ({ cls := "EnclosureReferee$RefusedException", name := "levels", desc := "()I" } : Jvm.MethodName)) ∈ lw_all := lw_g (lw_at lw_m2 132 rfl) rfl
theorem q446 : (Jvm.Cond.selects "EnclosureReferee$CellException" ({ cls := "EnclosureReferee$RefusedException", name := "at", desc := "(I)LEnclosureReferee$RefusedException;" } : Jvm.MethodName) ({ cls := "EnclosureReferee$RefusedException", name := "at", desc := "(I)LEnclosureReferee$RefusedException;" } : Jvm.MethodName)) ∈ lw_all := lw_g (lw_at lw_m2 140 rfl) rfl
theorem q454 : (Jvm.Cond.selects "EnclosureReferee$CellException" ({ cls := "java/lang/Throwable", name := "getCause", desc := "()Ljava/lang/Throwable;" } : Jvm.MethodName) ({ cls := "java/lang/Throwable", name := "getCause", desc := "()Ljava/lang/Throwable;" } : Jvm.MethodName)) ∈ lw_all := lw_g (lw_at lw_m2 148 rfl) rfl
theorem q526 : (Jvm.Cond.selects "EnclosureReferee$CellException" ({ cls := "java/lang/Throwable", name := "fillInStackTrace", desc := "()Ljava/lang/Throwable;" } : Jvm.MethodName) ({ cls := "java/lang/Throwable", name := "fillInStackTrace", desc := "()Ljava/lang/Throwable;" } : Jvm.MethodName)) ∈ lw_all := lw_g (lw_at lw_m2 220 rfl) rfl
theorem q709 : (Jvm.Cond.instantiable "EnclosureReferee$CellException" (8 : Nat)) ∈ lw_all := lw_g (lw_at lw_m3 163 rfl) rfl
theorem q710 : (Jvm.Cond.castable "EnclosureReferee$CellException" "EnclosureReferee$CellException") ∈ lw_tbl := lw_at lw_m3 164 rfl
theorem q711 : (Jvm.Cond.selects "EnclosureReferee$CellException" ({ cls := "java/lang/Throwable", name := "fillInStackTrace", desc := "(I)Ljava/lang/Throwable;" } : Jvm.MethodName) ({ cls := "java/lang/Throwable", name := "fillInStackTrace", desc := "(I)Ljava/lang/Throwable;" } : Jvm.MethodName)) ∈ lw_all := lw_g (lw_at lw_m3 165 rfl) rfl
theorem q712 : (Jvm.Cond.lays "EnclosureReferee$CellException" "java/lang/Throwable" "cause" "Ljava/lang/Throwable;") ∈ lw_all := lw_g (lw_at lw_m3 166 rfl) rfl
theorem q713 : (Jvm.Cond.lays "EnclosureReferee$CellException" "java/lang/Throwable" "stackTrace" "[Ljava/lang/StackTraceElement;") ∈ lw_all := lw_g (lw_at lw_m3 167 rfl) rfl
theorem q714 : (Jvm.Cond.lays "EnclosureReferee$CellException" "java/lang/Throwable" "suppressedExceptions" "Ljava/util/List;") ∈ lw_all := lw_g (lw_at lw_m3 168 rfl) rfl
theorem q715 : (Jvm.Cond.lays "EnclosureReferee$CellException" "java/lang/Throwable" "detailMessage" "Ljava/lang/String;") ∈ lw_all := lw_g (lw_at lw_m3 169 rfl) rfl
theorem q716 : (Jvm.Cond.lays "EnclosureReferee$CellException" "java/lang/Throwable" "backtrace" "Ljava/lang/Object;") ∈ lw_all := lw_g (lw_at lw_m3 170 rfl) rfl
theorem q718 : (Jvm.Cond.instanceMethod ({ cls := "EnclosureReferee$CellException", name := "<init>", desc := "(IILEnclosureReferee$WaveException;)V" } : Jvm.MethodName)) ∈ lw_all := lw_g (lw_at lw_m3 172 rfl) rfl
theorem q719 : (Jvm.Cond.code ({ cls := "EnclosureReferee$CellException", name := "<init>", desc := "(IILEnclosureReferee$WaveException;)V" } : Jvm.MethodName) prog_3_method_1_code (4 : Nat) (Option.none : Option Jvm.ClassFile.FieldType)) ∈ lw_all := lw_g (lw_at lw_m3 173 rfl) rfl
theorem q720 : (Jvm.Cond.methodLink "EnclosureReferee$CellException" (1 : Nat) ({ cls := "EnclosureReferee$RefusedException", name := "<init>", desc := "(IILEnclosureReferee$RefusedException;)V" } : Jvm.MethodName)) ∈ lw_all := lw_g (lw_at lw_m3 174 rfl) rfl
theorem q731 : (Jvm.Cond.laysFinal "EnclosureReferee$CellException" "EnclosureReferee$RefusedException" "code" "I") ∈ lw_all := lw_g (lw_at lw_m3 185 rfl) rfl
theorem q733 : (Jvm.Cond.laysFinal "EnclosureReferee$CellException" "EnclosureReferee$RefusedException" "detail" "I") ∈ lw_all := lw_g (lw_at lw_m3 187 rfl) rfl
theorem q735 : (Jvm.Cond.lays "EnclosureReferee$CellException" "java/lang/Throwable" "depth" "I") ∈ lw_all := lw_g (lw_at lw_m3 189 rfl) rfl
theorem q736 : (Jvm.Cond.superclass "EnclosureReferee$CellException" "EnclosureReferee$RefusedException") ∈ lw_all := lw_g (lw_at lw_m3 190 rfl) rfl
theorem q1108 : (Jvm.Cond.selects "EnclosureReferee$CellException" ({ cls := "EnclosureReferee$RefusedException", name := "part", desc := "(I)I" } : Jvm.MethodName) ({ cls := "EnclosureReferee$RefusedException", name := "part", desc := "(I)I" } : Jvm.MethodName)) ∈ lw_all := lw_g (lw_at lw_m5 82 rfl) rfl
theorem q1891 : (Jvm.Cond.castable "EnclosureReferee$CellException" "EnclosureReferee$RefusedException") ∈ lw_tbl := lw_at lw_m8 145 rfl
theorem q1906 : (Jvm.Cond.castable "EnclosureReferee$CellException" "java/lang/Object") ∈ lw_tbl := lw_at lw_m8 160 rfl
theorem in_X8 : ∀ w ∈ wsX80, w ∈ lw_all := lw_in wsX80 [731, 733, 712, 713, 714, 715, 716, 735] (by decide +kernel) (by decide +kernel)
/-! EnclosureReferee$WaveException -/
set_option maxRecDepth 100000
def RX9 : String := "EnclosureReferee$WaveException"
def TX9 : u_T := fun k => match k with
  | 0 => ("EnclosureReferee$RefusedException", "code", "I", true)
  | 1 => ("EnclosureReferee$RefusedException", "detail", "I", true)
  | 2 => ("java/lang/Throwable", "cause", "Ljava/lang/Throwable;", false)
  | 3 => ("java/lang/Throwable", "stackTrace", "[Ljava/lang/StackTraceElement;", false)
  | 4 => ("java/lang/Throwable", "suppressedExceptions", "Ljava/util/List;", false)
  | 5 => ("java/lang/Throwable", "detailMessage", "Ljava/lang/String;", false)
  | 6 => ("java/lang/Throwable", "backtrace", "Ljava/lang/Object;", false)
  | _ => ("java/lang/Throwable", "depth", "I", false)
def tyX9 : Nat → FieldType := fun k => match k with
  | 0 => .int
  | 1 => .int
  | 2 => .object "java/lang/Throwable"
  | 3 => .array (.object "java/lang/StackTraceElement")
  | 4 => .object "java/util/List"
  | 5 => .object "java/lang/String"
  | 6 => .object "java/lang/Object"
  | _ => .int
abbrev wsX90 : List Cond := u_ws RX9 TX9 8
theorem nmX9 : ∀ a, a < 8 → ∀ b, b < 8 → a ≠ b → (TX9 a).2.1 ≠ (TX9 b).2.1 := by decide +kernel
theorem tyX9_ok : ∀ k, k < 8 → parseFieldDescriptor (TX9 k).2.2.1 = some (tyX9 k) := by decide +kernel
abbrev cX9_init : ByteArray := prog_12_method_1_code
def yX9_init : MethodName := ⟨RX9, "<init>", "(II)V"⟩
def dkwX9_init_0 : List UInt8 := [42, 16, 20, 27, 96, 28, 1, 183, 0, 1, 177]
abbrev dktX9_init_0 : List UInt8 := dkwX9_init_0 ++ []
theorem dksX9_init_0 : cX9_init.data.toList.drop 0 = dktX9_init_0 := by decide +kernel
theorem dX9_init_0 : decode cX9_init 0 = .ok (.aload_n 0, 1) := dk_42 (dk_at dksX9_init_0 0 rfl rfl)
theorem dX9_init_1 : decode cX9_init 1 = .ok (.bipush 20, 2) := dk_16 20 (dk_at dksX9_init_0 1 rfl rfl)
theorem dX9_init_3 : decode cX9_init 3 = .ok (.iload_n 1, 1) := dk_27 (dk_at dksX9_init_0 3 rfl rfl)
theorem dX9_init_4 : decode cX9_init 4 = .ok (.iadd, 1) := dk_96 (dk_at dksX9_init_0 4 rfl rfl)
theorem dX9_init_5 : decode cX9_init 5 = .ok (.iload_n 2, 1) := dk_28 (dk_at dksX9_init_0 5 rfl rfl)
theorem dX9_init_6 : decode cX9_init 6 = .ok (.aconst_null, 1) := dk_1 (dk_at dksX9_init_0 6 rfl rfl)
theorem dX9_init_7 : decode cX9_init 7 = .ok (.invokespecial 1, 3) := dk_183 0 1 (dk_at dksX9_init_0 7 rfl rfl)
theorem dX9_init_10 : decode cX9_init 10 = .ok (.return_, 1) := dk_177 (dk_at dksX9_init_0 10 rfl rfl)
theorem q94 : (Jvm.Cond.initialized "EnclosureReferee$WaveException") ∈ lw_all := lw_g (lw_at lw_m1 28 rfl) rfl
theorem q300 : (Jvm.Cond.selects "EnclosureReferee$WaveException" ({ cls := "java/lang/Object", name := "getClass", desc := "()Ljava/lang/Class;" } : Jvm.MethodName) ({ cls := "java/lang/Object", name := "getClass", desc := "()Ljava/lang/Class;" } : Jvm.MethodName)) ∈ lw_all := lw_g (lw_at lw_m1 234 rfl) rfl
theorem q441 : (Jvm.Cond.selects "EnclosureReferee$WaveException" ({ cls := "EnclosureReferee$RefusedException", name := "levels", desc := "()I" } : Jvm.MethodName) ({ cls := "EnclosureReferee$RefusedException", name := "levels", desc := "()I" } : Jvm.MethodName)) ∈ lw_all := lw_g (lw_at lw_m2 135 rfl) rfl
theorem q449 : (Jvm.Cond.selects "EnclosureReferee$WaveException" ({ cls := "EnclosureReferee$RefusedException", name := "at", desc := "(I)LEnclosureReferee$RefusedException;" } : Jvm.MethodName) ({ cls := "EnclosureReferee$RefusedException", name := "at", desc := "(I)LEnclosureReferee$RefusedException;" } : Jvm.MethodName)) ∈ lw_all := lw_g (lw_at lw_m2 143 rfl) rfl
theorem q458 : (Jvm.Cond.selects "EnclosureReferee$WaveException" ({ cls := "java/lang/Throwable", name := "getCause", desc := "()Ljava/lang/Throwable;" } : Jvm.MethodName) ({ cls := "java/lang/Throwable", name := "getCause", desc := "()Ljava/lang/Throwable;" } : Jvm.MethodName)) ∈ lw_all := lw_g (lw_at lw_m2 152 rfl) rfl
theorem q530 : (Jvm.Cond.selects "EnclosureReferee$WaveException" ({ cls := "java/lang/Throwable", name := "fillInStackTrace", desc := "()Ljava/lang/Throwable;" } : Jvm.MethodName) ({ cls := "java/lang/Throwable", name := "fillInStackTrace", desc := "()Ljava/lang/Throwable;" } : Jvm.MethodName)) ∈ lw_all := lw_g (lw_at lw_m2 224 rfl) rfl
theorem q738 : (Jvm.Cond.instantiable "EnclosureReferee$WaveException" (8 : Nat)) ∈ lw_all := lw_g (lw_at lw_m3 192 rfl) rfl
theorem q739 : (Jvm.Cond.castable "EnclosureReferee$WaveException" "EnclosureReferee$WaveException") ∈ lw_tbl := lw_at lw_m3 193 rfl
theorem q740 : (Jvm.Cond.selects "EnclosureReferee$WaveException" ({ cls := "java/lang/Throwable", name := "fillInStackTrace", desc := "(I)Ljava/lang/Throwable;" } : Jvm.MethodName) ({ cls := "java/lang/Throwable", name := "fillInStackTrace", desc := "(I)Ljava/lang/Throwable;" } : Jvm.MethodName)) ∈ lw_all := lw_g (lw_at lw_m3 194 rfl) rfl
theorem q741 : (Jvm.Cond.lays "EnclosureReferee$WaveException" "java/lang/Throwable" "cause" "Ljava/lang/Throwable;") ∈ lw_all := lw_g (lw_at lw_m3 195 rfl) rfl
theorem q742 : (Jvm.Cond.lays "EnclosureReferee$WaveException" "java/lang/Throwable" "stackTrace" "[Ljava/lang/StackTraceElement;") ∈ lw_all := lw_g (lw_at lw_m3 196 rfl) rfl
theorem q743 : (Jvm.Cond.lays "EnclosureReferee$WaveException" "java/lang/Throwable" "suppressedExceptions" "Ljava/util/List;") ∈ lw_all := lw_g (lw_at lw_m3 197 rfl) rfl
theorem q744 : (Jvm.Cond.lays "EnclosureReferee$WaveException" "java/lang/Throwable" "detailMessage" "Ljava/lang/String;") ∈ lw_all := lw_g (lw_at lw_m3 198 rfl) rfl
theorem q745 : (Jvm.Cond.lays "EnclosureReferee$WaveException" "java/lang/Throwable" "backtrace" "Ljava/lang/Object;") ∈ lw_all := lw_g (lw_at lw_m3 199 rfl) rfl
theorem q751 : (Jvm.Cond.instanceMethod ({ cls := "EnclosureReferee$WaveException", name := "<init>", desc := "(II)V" } : Jvm.MethodName)) ∈ lw_all := lw_g (lw_at lw_m3 205 rfl) rfl
theorem q752 : (Jvm.Cond.code ({ cls := "EnclosureReferee$WaveException", name := "<init>", desc := "(II)V" } : Jvm.MethodName) prog_12_method_1_code (3 : Nat) (Option.none : Option Jvm.ClassFile.FieldType)) ∈ lw_all := lw_g (lw_at lw_m3 206 rfl) rfl
theorem q753 : (Jvm.Cond.methodLink "EnclosureReferee$WaveException" (1 : Nat) ({ cls := "EnclosureReferee$RefusedException", name := "<init>", desc := "(IILEnclosureReferee$RefusedException;)V" } : Jvm.MethodName)) ∈ lw_all := lw_g (lw_at lw_m3 207 rfl) rfl
theorem q754 : (Jvm.Cond.laysFinal "EnclosureReferee$WaveException" "EnclosureReferee$RefusedException" "code" "I") ∈ lw_all := lw_g (lw_at lw_m3 208 rfl) rfl
theorem q755 : (Jvm.Cond.laysFinal "EnclosureReferee$WaveException" "EnclosureReferee$RefusedException" "detail" "I") ∈ lw_all := lw_g (lw_at lw_m3 209 rfl) rfl
theorem q756 : (Jvm.Cond.lays "EnclosureReferee$WaveException" "java/lang/Throwable" "depth" "I") ∈ lw_all := lw_g (lw_at lw_m3 210 rfl) rfl
theorem q757 : (Jvm.Cond.superclass "EnclosureReferee$WaveException" "EnclosureReferee$RefusedException") ∈ lw_all := lw_g (lw_at lw_m3 211 rfl) rfl
theorem q1111 : (Jvm.Cond.selects "EnclosureReferee$WaveException" ({ cls := "EnclosureReferee$RefusedException", name := "part", desc := "(I)I" } : Jvm.MethodName) ({ cls := "EnclosureReferee$RefusedException", name := "part", desc := "(I)I" } : Jvm.MethodName)) ∈ lw_all := lw_g (lw_at lw_m5 85 rfl) rfl
theorem q1894 : (Jvm.Cond.castable "EnclosureReferee$WaveException" "EnclosureReferee$RefusedException") ∈ lw_tbl := lw_at lw_m8 148 rfl
theorem q1907 : (Jvm.Cond.castable "EnclosureReferee$WaveException" "java/lang/Object") ∈ lw_tbl := lw_at lw_m8 161 rfl
theorem in_X9 : ∀ w ∈ wsX90, w ∈ lw_all := lw_in wsX90 [754, 755, 741, 742, 743, 744, 745, 756] (by decide +kernel) (by decide +kernel)
