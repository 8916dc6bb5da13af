/-! EnclosureRefereeLaw -/
set_option maxRecDepth 100000
def RX0 : String := "EnclosureRefereeLaw"
abbrev cX0_start : ByteArray := method_3_code
def yX0_start : MethodName := ⟨RX0, "start", "(LEnclosureReferee;III[J)I"⟩
def dkwX0_start_0 : List UInt8 := [25, 4, 3, 42, 27, 28, 29, 182, 0, 7, 133, 80, 167, 0, 7, 58, 5, 4, 172, 3, 172]
abbrev dktX0_start_0 : List UInt8 := dkwX0_start_0 ++ []
theorem dksX0_start_0 : cX0_start.data.toList.drop 0 = dktX0_start_0 := by decide +kernel
theorem dX0_start_0 : decode cX0_start 0 = .ok (.aload 4, 2) := dk_25 4 (dk_at dksX0_start_0 0 rfl rfl)
theorem dX0_start_2 : decode cX0_start 2 = .ok (.iconst 0, 1) := dk_3 (dk_at dksX0_start_0 2 rfl rfl)
theorem dX0_start_3 : decode cX0_start 3 = .ok (.aload_n 0, 1) := dk_42 (dk_at dksX0_start_0 3 rfl rfl)
theorem dX0_start_4 : decode cX0_start 4 = .ok (.iload_n 1, 1) := dk_27 (dk_at dksX0_start_0 4 rfl rfl)
theorem dX0_start_5 : decode cX0_start 5 = .ok (.iload_n 2, 1) := dk_28 (dk_at dksX0_start_0 5 rfl rfl)
theorem dX0_start_6 : decode cX0_start 6 = .ok (.iload_n 3, 1) := dk_29 (dk_at dksX0_start_0 6 rfl rfl)
theorem dX0_start_7 : decode cX0_start 7 = .ok (.invokevirtual 7, 3) := dk_182 0 7 (dk_at dksX0_start_0 7 rfl rfl)
theorem dX0_start_10 : decode cX0_start 10 = .ok (.i2l, 1) := dk_133 (dk_at dksX0_start_0 10 rfl rfl)
theorem dX0_start_11 : decode cX0_start 11 = .ok (.lastore, 1) := dk_80 (dk_at dksX0_start_0 11 rfl rfl)
theorem dX0_start_12 : decode cX0_start 12 = .ok (.goto 7, 3) := dk_167 0 7 (dk_at dksX0_start_0 12 rfl rfl)
theorem dX0_start_15 : decode cX0_start 15 = .ok (.astore 5, 2) := dk_58 5 (dk_at dksX0_start_0 15 rfl rfl)
theorem dX0_start_17 : decode cX0_start 17 = .ok (.iconst 1, 1) := dk_4 (dk_at dksX0_start_0 17 rfl rfl)
theorem dX0_start_18 : decode cX0_start 18 = .ok (.ireturn, 1) := dk_172 (dk_at dksX0_start_0 18 rfl rfl)
theorem dX0_start_19 : decode cX0_start 19 = .ok (.iconst 0, 1) := dk_3 (dk_at dksX0_start_0 19 rfl rfl)
theorem dX0_start_20 : decode cX0_start 20 = .ok (.ireturn, 1) := dk_172 (dk_at dksX0_start_0 20 rfl rfl)
abbrev cX0_setRule : ByteArray := method_4_code
def yX0_setRule : MethodName := ⟨RX0, "setRule", "(LEnclosureReferee;I[J)I"⟩
def dkwX0_setRule_0 : List UInt8 := [44, 3, 42, 27, 182, 0, 15, 133, 80, 167, 0, 6, 78, 4, 172, 3, 172]
abbrev dktX0_setRule_0 : List UInt8 := dkwX0_setRule_0 ++ []
theorem dksX0_setRule_0 : cX0_setRule.data.toList.drop 0 = dktX0_setRule_0 := by decide +kernel
theorem dX0_setRule_0 : decode cX0_setRule 0 = .ok (.aload_n 2, 1) := dk_44 (dk_at dksX0_setRule_0 0 rfl rfl)
theorem dX0_setRule_1 : decode cX0_setRule 1 = .ok (.iconst 0, 1) := dk_3 (dk_at dksX0_setRule_0 1 rfl rfl)
theorem dX0_setRule_2 : decode cX0_setRule 2 = .ok (.aload_n 0, 1) := dk_42 (dk_at dksX0_setRule_0 2 rfl rfl)
theorem dX0_setRule_3 : decode cX0_setRule 3 = .ok (.iload_n 1, 1) := dk_27 (dk_at dksX0_setRule_0 3 rfl rfl)
theorem dX0_setRule_4 : decode cX0_setRule 4 = .ok (.invokevirtual 15, 3) := dk_182 0 15 (dk_at dksX0_setRule_0 4 rfl rfl)
theorem dX0_setRule_7 : decode cX0_setRule 7 = .ok (.i2l, 1) := dk_133 (dk_at dksX0_setRule_0 7 rfl rfl)
theorem dX0_setRule_8 : decode cX0_setRule 8 = .ok (.lastore, 1) := dk_80 (dk_at dksX0_setRule_0 8 rfl rfl)
theorem dX0_setRule_9 : decode cX0_setRule 9 = .ok (.goto 6, 3) := dk_167 0 6 (dk_at dksX0_setRule_0 9 rfl rfl)
theorem dX0_setRule_12 : decode cX0_setRule 12 = .ok (.astore_n 3, 1) := dk_78 (dk_at dksX0_setRule_0 12 rfl rfl)
theorem dX0_setRule_13 : decode cX0_setRule 13 = .ok (.iconst 1, 1) := dk_4 (dk_at dksX0_setRule_0 13 rfl rfl)
theorem dX0_setRule_14 : decode cX0_setRule 14 = .ok (.ireturn, 1) := dk_172 (dk_at dksX0_setRule_0 14 rfl rfl)
theorem dX0_setRule_15 : decode cX0_setRule 15 = .ok (.iconst 0, 1) := dk_3 (dk_at dksX0_setRule_0 15 rfl rfl)
theorem dX0_setRule_16 : decode cX0_setRule 16 = .ok (.ireturn, 1) := dk_172 (dk_at dksX0_setRule_0 16 rfl rfl)
abbrev cX0_setBonus : ByteArray := method_5_code
def yX0_setBonus : MethodName := ⟨RX0, "setBonus", "(LEnclosureReferee;II[J)I"⟩
def dkwX0_setBonus_0 : List UInt8 := [45, 3, 42, 27, 28, 182, 0, 19, 133, 80, 167, 0, 11, 58, 4, 4, 172, 58, 4, 5, 172, 3, 172]
abbrev dktX0_setBonus_0 : List UInt8 := dkwX0_setBonus_0 ++ []
theorem dksX0_setBonus_0 : cX0_setBonus.data.toList.drop 0 = dktX0_setBonus_0 := by decide +kernel
theorem dX0_setBonus_0 : decode cX0_setBonus 0 = .ok (.aload_n 3, 1) := dk_45 (dk_at dksX0_setBonus_0 0 rfl rfl)
theorem dX0_setBonus_1 : decode cX0_setBonus 1 = .ok (.iconst 0, 1) := dk_3 (dk_at dksX0_setBonus_0 1 rfl rfl)
theorem dX0_setBonus_2 : decode cX0_setBonus 2 = .ok (.aload_n 0, 1) := dk_42 (dk_at dksX0_setBonus_0 2 rfl rfl)
theorem dX0_setBonus_3 : decode cX0_setBonus 3 = .ok (.iload_n 1, 1) := dk_27 (dk_at dksX0_setBonus_0 3 rfl rfl)
theorem dX0_setBonus_4 : decode cX0_setBonus 4 = .ok (.iload_n 2, 1) := dk_28 (dk_at dksX0_setBonus_0 4 rfl rfl)
theorem dX0_setBonus_5 : decode cX0_setBonus 5 = .ok (.invokevirtual 19, 3) := dk_182 0 19 (dk_at dksX0_setBonus_0 5 rfl rfl)
theorem dX0_setBonus_8 : decode cX0_setBonus 8 = .ok (.i2l, 1) := dk_133 (dk_at dksX0_setBonus_0 8 rfl rfl)
theorem dX0_setBonus_9 : decode cX0_setBonus 9 = .ok (.lastore, 1) := dk_80 (dk_at dksX0_setBonus_0 9 rfl rfl)
theorem dX0_setBonus_10 : decode cX0_setBonus 10 = .ok (.goto 11, 3) := dk_167 0 11 (dk_at dksX0_setBonus_0 10 rfl rfl)
theorem dX0_setBonus_13 : decode cX0_setBonus 13 = .ok (.astore 4, 2) := dk_58 4 (dk_at dksX0_setBonus_0 13 rfl rfl)
theorem dX0_setBonus_15 : decode cX0_setBonus 15 = .ok (.iconst 1, 1) := dk_4 (dk_at dksX0_setBonus_0 15 rfl rfl)
theorem dX0_setBonus_16 : decode cX0_setBonus 16 = .ok (.ireturn, 1) := dk_172 (dk_at dksX0_setBonus_0 16 rfl rfl)
theorem dX0_setBonus_17 : decode cX0_setBonus 17 = .ok (.astore 4, 2) := dk_58 4 (dk_at dksX0_setBonus_0 17 rfl rfl)
theorem dX0_setBonus_19 : decode cX0_setBonus 19 = .ok (.iconst 2, 1) := dk_5 (dk_at dksX0_setBonus_0 19 rfl rfl)
theorem dX0_setBonus_20 : decode cX0_setBonus 20 = .ok (.ireturn, 1) := dk_172 (dk_at dksX0_setBonus_0 20 rfl rfl)
theorem dX0_setBonus_21 : decode cX0_setBonus 21 = .ok (.iconst 0, 1) := dk_3 (dk_at dksX0_setBonus_0 21 rfl rfl)
theorem dX0_setBonus_22 : decode cX0_setBonus 22 = .ok (.ireturn, 1) := dk_172 (dk_at dksX0_setBonus_0 22 rfl rfl)
abbrev cX0_play : ByteArray := method_6_code
def yX0_play : MethodName := ⟨RX0, "play", "(LEnclosureReferee;II[J)I"⟩
def dkwX0_play_1 : List UInt8 := [172, 3, 172]
abbrev dktX0_play_1 : List UInt8 := dkwX0_play_1 ++ []
def dkwX0_play_0 : List UInt8 := [45, 3, 42, 27, 28, 182, 0, 25, 133, 80, 167, 0, 15, 58, 4, 4, 172, 58, 4, 5, 172, 58, 4, 6]
abbrev dktX0_play_0 : List UInt8 := dkwX0_play_0 ++ dktX0_play_1
theorem dksX0_play_0 : cX0_play.data.toList.drop 0 = dktX0_play_0 := by decide +kernel
theorem dksX0_play_1 : cX0_play.data.toList.drop 24 = dktX0_play_1 := dk_seg dksX0_play_0 24 rfl rfl
theorem dX0_play_0 : decode cX0_play 0 = .ok (.aload_n 3, 1) := dk_45 (dk_at dksX0_play_0 0 rfl rfl)
theorem dX0_play_1 : decode cX0_play 1 = .ok (.iconst 0, 1) := dk_3 (dk_at dksX0_play_0 1 rfl rfl)
theorem dX0_play_2 : decode cX0_play 2 = .ok (.aload_n 0, 1) := dk_42 (dk_at dksX0_play_0 2 rfl rfl)
theorem dX0_play_3 : decode cX0_play 3 = .ok (.iload_n 1, 1) := dk_27 (dk_at dksX0_play_0 3 rfl rfl)
theorem dX0_play_4 : decode cX0_play 4 = .ok (.iload_n 2, 1) := dk_28 (dk_at dksX0_play_0 4 rfl rfl)
theorem dX0_play_5 : decode cX0_play 5 = .ok (.invokevirtual 25, 3) := dk_182 0 25 (dk_at dksX0_play_0 5 rfl rfl)
theorem dX0_play_8 : decode cX0_play 8 = .ok (.i2l, 1) := dk_133 (dk_at dksX0_play_0 8 rfl rfl)
theorem dX0_play_9 : decode cX0_play 9 = .ok (.lastore, 1) := dk_80 (dk_at dksX0_play_0 9 rfl rfl)
theorem dX0_play_10 : decode cX0_play 10 = .ok (.goto 15, 3) := dk_167 0 15 (dk_at dksX0_play_0 10 rfl rfl)
theorem dX0_play_13 : decode cX0_play 13 = .ok (.astore 4, 2) := dk_58 4 (dk_at dksX0_play_0 13 rfl rfl)
theorem dX0_play_15 : decode cX0_play 15 = .ok (.iconst 1, 1) := dk_4 (dk_at dksX0_play_0 15 rfl rfl)
theorem dX0_play_16 : decode cX0_play 16 = .ok (.ireturn, 1) := dk_172 (dk_at dksX0_play_0 16 rfl rfl)
theorem dX0_play_17 : decode cX0_play 17 = .ok (.astore 4, 2) := dk_58 4 (dk_at dksX0_play_0 17 rfl rfl)
theorem dX0_play_19 : decode cX0_play 19 = .ok (.iconst 2, 1) := dk_5 (dk_at dksX0_play_0 19 rfl rfl)
theorem dX0_play_20 : decode cX0_play 20 = .ok (.ireturn, 1) := dk_172 (dk_at dksX0_play_0 20 rfl rfl)
theorem dX0_play_21 : decode cX0_play 21 = .ok (.astore 4, 2) := dk_58 4 (dk_at dksX0_play_0 21 rfl rfl)
theorem dX0_play_23 : decode cX0_play 23 = .ok (.iconst 3, 1) := dk_6 (dk_at dksX0_play_0 23 rfl rfl)
theorem dX0_play_24 : decode cX0_play 24 = .ok (.ireturn, 1) := dk_172 (dk_at dksX0_play_1 0 rfl rfl)
theorem dX0_play_25 : decode cX0_play 25 = .ok (.iconst 0, 1) := dk_3 (dk_at dksX0_play_1 1 rfl rfl)
theorem dX0_play_26 : decode cX0_play 26 = .ok (.ireturn, 1) := dk_172 (dk_at dksX0_play_1 2 rfl rfl)
abbrev cX0_undo : ByteArray := method_7_code
def yX0_undo : MethodName := ⟨RX0, "undo", "(LEnclosureReferee;[J)I"⟩
def dkwX0_undo_0 : List UInt8 := [43, 3, 42, 182, 0, 32, 133, 80, 167, 0, 6, 77, 4, 172, 3, 172]
abbrev dktX0_undo_0 : List UInt8 := dkwX0_undo_0 ++ []
theorem dksX0_undo_0 : cX0_undo.data.toList.drop 0 = dktX0_undo_0 := by decide +kernel
theorem dX0_undo_0 : decode cX0_undo 0 = .ok (.aload_n 1, 1) := dk_43 (dk_at dksX0_undo_0 0 rfl rfl)
theorem dX0_undo_1 : decode cX0_undo 1 = .ok (.iconst 0, 1) := dk_3 (dk_at dksX0_undo_0 1 rfl rfl)
theorem dX0_undo_2 : decode cX0_undo 2 = .ok (.aload_n 0, 1) := dk_42 (dk_at dksX0_undo_0 2 rfl rfl)
theorem dX0_undo_3 : decode cX0_undo 3 = .ok (.invokevirtual 32, 3) := dk_182 0 32 (dk_at dksX0_undo_0 3 rfl rfl)
theorem dX0_undo_6 : decode cX0_undo 6 = .ok (.i2l, 1) := dk_133 (dk_at dksX0_undo_0 6 rfl rfl)
theorem dX0_undo_7 : decode cX0_undo 7 = .ok (.lastore, 1) := dk_80 (dk_at dksX0_undo_0 7 rfl rfl)
theorem dX0_undo_8 : decode cX0_undo 8 = .ok (.goto 6, 3) := dk_167 0 6 (dk_at dksX0_undo_0 8 rfl rfl)
theorem dX0_undo_11 : decode cX0_undo 11 = .ok (.astore_n 2, 1) := dk_77 (dk_at dksX0_undo_0 11 rfl rfl)
theorem dX0_undo_12 : decode cX0_undo 12 = .ok (.iconst 1, 1) := dk_4 (dk_at dksX0_undo_0 12 rfl rfl)
theorem dX0_undo_13 : decode cX0_undo 13 = .ok (.ireturn, 1) := dk_172 (dk_at dksX0_undo_0 13 rfl rfl)
theorem dX0_undo_14 : decode cX0_undo 14 = .ok (.iconst 0, 1) := dk_3 (dk_at dksX0_undo_0 14 rfl rfl)
theorem dX0_undo_15 : decode cX0_undo 15 = .ok (.ireturn, 1) := dk_172 (dk_at dksX0_undo_0 15 rfl rfl)
abbrev cX0_cell : ByteArray := method_8_code
def yX0_cell : MethodName := ⟨RX0, "cell", "(LEnclosureReferee;II[J)I"⟩
def dkwX0_cell_0 : List UInt8 := [45, 3, 42, 27, 28, 182, 0, 36, 133, 80, 167, 0, 7, 58, 4, 4, 172, 3, 172]
abbrev dktX0_cell_0 : List UInt8 := dkwX0_cell_0 ++ []
theorem dksX0_cell_0 : cX0_cell.data.toList.drop 0 = dktX0_cell_0 := by decide +kernel
theorem dX0_cell_0 : decode cX0_cell 0 = .ok (.aload_n 3, 1) := dk_45 (dk_at dksX0_cell_0 0 rfl rfl)
theorem dX0_cell_1 : decode cX0_cell 1 = .ok (.iconst 0, 1) := dk_3 (dk_at dksX0_cell_0 1 rfl rfl)
theorem dX0_cell_2 : decode cX0_cell 2 = .ok (.aload_n 0, 1) := dk_42 (dk_at dksX0_cell_0 2 rfl rfl)
theorem dX0_cell_3 : decode cX0_cell 3 = .ok (.iload_n 1, 1) := dk_27 (dk_at dksX0_cell_0 3 rfl rfl)
theorem dX0_cell_4 : decode cX0_cell 4 = .ok (.iload_n 2, 1) := dk_28 (dk_at dksX0_cell_0 4 rfl rfl)
theorem dX0_cell_5 : decode cX0_cell 5 = .ok (.invokevirtual 36, 3) := dk_182 0 36 (dk_at dksX0_cell_0 5 rfl rfl)
theorem dX0_cell_8 : decode cX0_cell 8 = .ok (.i2l, 1) := dk_133 (dk_at dksX0_cell_0 8 rfl rfl)
theorem dX0_cell_9 : decode cX0_cell 9 = .ok (.lastore, 1) := dk_80 (dk_at dksX0_cell_0 9 rfl rfl)
theorem dX0_cell_10 : decode cX0_cell 10 = .ok (.goto 7, 3) := dk_167 0 7 (dk_at dksX0_cell_0 10 rfl rfl)
theorem dX0_cell_13 : decode cX0_cell 13 = .ok (.astore 4, 2) := dk_58 4 (dk_at dksX0_cell_0 13 rfl rfl)
theorem dX0_cell_15 : decode cX0_cell 15 = .ok (.iconst 1, 1) := dk_4 (dk_at dksX0_cell_0 15 rfl rfl)
theorem dX0_cell_16 : decode cX0_cell 16 = .ok (.ireturn, 1) := dk_172 (dk_at dksX0_cell_0 16 rfl rfl)
theorem dX0_cell_17 : decode cX0_cell 17 = .ok (.iconst 0, 1) := dk_3 (dk_at dksX0_cell_0 17 rfl rfl)
theorem dX0_cell_18 : decode cX0_cell 18 = .ok (.ireturn, 1) := dk_172 (dk_at dksX0_cell_0 18 rfl rfl)
abbrev cX0_since : ByteArray := method_9_code
def yX0_since : MethodName := ⟨RX0, "since", "(LEnclosureReferee;II[J)I"⟩
def dkwX0_since_0 : List UInt8 := [45, 3, 42, 27, 28, 182, 0, 39, 133, 80, 167, 0, 11, 58, 4, 4, 172, 58, 4, 5, 172, 3, 172]
abbrev dktX0_since_0 : List UInt8 := dkwX0_since_0 ++ []
theorem dksX0_since_0 : cX0_since.data.toList.drop 0 = dktX0_since_0 := by decide +kernel
theorem dX0_since_0 : decode cX0_since 0 = .ok (.aload_n 3, 1) := dk_45 (dk_at dksX0_since_0 0 rfl rfl)
theorem dX0_since_1 : decode cX0_since 1 = .ok (.iconst 0, 1) := dk_3 (dk_at dksX0_since_0 1 rfl rfl)
theorem dX0_since_2 : decode cX0_since 2 = .ok (.aload_n 0, 1) := dk_42 (dk_at dksX0_since_0 2 rfl rfl)
theorem dX0_since_3 : decode cX0_since 3 = .ok (.iload_n 1, 1) := dk_27 (dk_at dksX0_since_0 3 rfl rfl)
theorem dX0_since_4 : decode cX0_since 4 = .ok (.iload_n 2, 1) := dk_28 (dk_at dksX0_since_0 4 rfl rfl)
theorem dX0_since_5 : decode cX0_since 5 = .ok (.invokevirtual 39, 3) := dk_182 0 39 (dk_at dksX0_since_0 5 rfl rfl)
theorem dX0_since_8 : decode cX0_since 8 = .ok (.i2l, 1) := dk_133 (dk_at dksX0_since_0 8 rfl rfl)
theorem dX0_since_9 : decode cX0_since 9 = .ok (.lastore, 1) := dk_80 (dk_at dksX0_since_0 9 rfl rfl)
theorem dX0_since_10 : decode cX0_since 10 = .ok (.goto 11, 3) := dk_167 0 11 (dk_at dksX0_since_0 10 rfl rfl)
theorem dX0_since_13 : decode cX0_since 13 = .ok (.astore 4, 2) := dk_58 4 (dk_at dksX0_since_0 13 rfl rfl)
theorem dX0_since_15 : decode cX0_since 15 = .ok (.iconst 1, 1) := dk_4 (dk_at dksX0_since_0 15 rfl rfl)
theorem dX0_since_16 : decode cX0_since 16 = .ok (.ireturn, 1) := dk_172 (dk_at dksX0_since_0 16 rfl rfl)
theorem dX0_since_17 : decode cX0_since 17 = .ok (.astore 4, 2) := dk_58 4 (dk_at dksX0_since_0 17 rfl rfl)
theorem dX0_since_19 : decode cX0_since 19 = .ok (.iconst 2, 1) := dk_5 (dk_at dksX0_since_0 19 rfl rfl)
theorem dX0_since_20 : decode cX0_since 20 = .ok (.ireturn, 1) := dk_172 (dk_at dksX0_since_0 20 rfl rfl)
theorem dX0_since_21 : decode cX0_since 21 = .ok (.iconst 0, 1) := dk_3 (dk_at dksX0_since_0 21 rfl rfl)
theorem dX0_since_22 : decode cX0_since 22 = .ok (.ireturn, 1) := dk_172 (dk_at dksX0_since_0 22 rfl rfl)
abbrev cX0_count : ByteArray := method_10_code
def yX0_count : MethodName := ⟨RX0, "count", "(LEnclosureReferee;I[J)I"⟩
def dkwX0_count_0 : List UInt8 := [44, 3, 42, 27, 182, 0, 42, 133, 80, 167, 0, 6, 78, 4, 172, 3, 172]
abbrev dktX0_count_0 : List UInt8 := dkwX0_count_0 ++ []
theorem dksX0_count_0 : cX0_count.data.toList.drop 0 = dktX0_count_0 := by decide +kernel
theorem dX0_count_0 : decode cX0_count 0 = .ok (.aload_n 2, 1) := dk_44 (dk_at dksX0_count_0 0 rfl rfl)
theorem dX0_count_1 : decode cX0_count 1 = .ok (.iconst 0, 1) := dk_3 (dk_at dksX0_count_0 1 rfl rfl)
theorem dX0_count_2 : decode cX0_count 2 = .ok (.aload_n 0, 1) := dk_42 (dk_at dksX0_count_0 2 rfl rfl)
theorem dX0_count_3 : decode cX0_count 3 = .ok (.iload_n 1, 1) := dk_27 (dk_at dksX0_count_0 3 rfl rfl)
theorem dX0_count_4 : decode cX0_count 4 = .ok (.invokevirtual 42, 3) := dk_182 0 42 (dk_at dksX0_count_0 4 rfl rfl)
theorem dX0_count_7 : decode cX0_count 7 = .ok (.i2l, 1) := dk_133 (dk_at dksX0_count_0 7 rfl rfl)
theorem dX0_count_8 : decode cX0_count 8 = .ok (.lastore, 1) := dk_80 (dk_at dksX0_count_0 8 rfl rfl)
theorem dX0_count_9 : decode cX0_count 9 = .ok (.goto 6, 3) := dk_167 0 6 (dk_at dksX0_count_0 9 rfl rfl)
theorem dX0_count_12 : decode cX0_count 12 = .ok (.astore_n 3, 1) := dk_78 (dk_at dksX0_count_0 12 rfl rfl)
theorem dX0_count_13 : decode cX0_count 13 = .ok (.iconst 1, 1) := dk_4 (dk_at dksX0_count_0 13 rfl rfl)
theorem dX0_count_14 : decode cX0_count 14 = .ok (.ireturn, 1) := dk_172 (dk_at dksX0_count_0 14 rfl rfl)
theorem dX0_count_15 : decode cX0_count 15 = .ok (.iconst 0, 1) := dk_3 (dk_at dksX0_count_0 15 rfl rfl)
theorem dX0_count_16 : decode cX0_count 16 = .ok (.ireturn, 1) := dk_172 (dk_at dksX0_count_0 16 rfl rfl)
abbrev cX0_player : ByteArray := method_11_code
def yX0_player : MethodName := ⟨RX0, "player", "(LEnclosureReferee;II[J)I"⟩
def dkwX0_player_0 : List UInt8 := [45, 3, 42, 27, 28, 182, 0, 45, 133, 80, 167, 0, 11, 58, 4, 4, 172, 58, 4, 5, 172, 3, 172]
abbrev dktX0_player_0 : List UInt8 := dkwX0_player_0 ++ []
theorem dksX0_player_0 : cX0_player.data.toList.drop 0 = dktX0_player_0 := by decide +kernel
theorem dX0_player_0 : decode cX0_player 0 = .ok (.aload_n 3, 1) := dk_45 (dk_at dksX0_player_0 0 rfl rfl)
theorem dX0_player_1 : decode cX0_player 1 = .ok (.iconst 0, 1) := dk_3 (dk_at dksX0_player_0 1 rfl rfl)
theorem dX0_player_2 : decode cX0_player 2 = .ok (.aload_n 0, 1) := dk_42 (dk_at dksX0_player_0 2 rfl rfl)
theorem dX0_player_3 : decode cX0_player 3 = .ok (.iload_n 1, 1) := dk_27 (dk_at dksX0_player_0 3 rfl rfl)
theorem dX0_player_4 : decode cX0_player 4 = .ok (.iload_n 2, 1) := dk_28 (dk_at dksX0_player_0 4 rfl rfl)
theorem dX0_player_5 : decode cX0_player 5 = .ok (.invokevirtual 45, 3) := dk_182 0 45 (dk_at dksX0_player_0 5 rfl rfl)
theorem dX0_player_8 : decode cX0_player 8 = .ok (.i2l, 1) := dk_133 (dk_at dksX0_player_0 8 rfl rfl)
theorem dX0_player_9 : decode cX0_player 9 = .ok (.lastore, 1) := dk_80 (dk_at dksX0_player_0 9 rfl rfl)
theorem dX0_player_10 : decode cX0_player 10 = .ok (.goto 11, 3) := dk_167 0 11 (dk_at dksX0_player_0 10 rfl rfl)
theorem dX0_player_13 : decode cX0_player 13 = .ok (.astore 4, 2) := dk_58 4 (dk_at dksX0_player_0 13 rfl rfl)
theorem dX0_player_15 : decode cX0_player 15 = .ok (.iconst 1, 1) := dk_4 (dk_at dksX0_player_0 15 rfl rfl)
theorem dX0_player_16 : decode cX0_player 16 = .ok (.ireturn, 1) := dk_172 (dk_at dksX0_player_0 16 rfl rfl)
theorem dX0_player_17 : decode cX0_player 17 = .ok (.astore 4, 2) := dk_58 4 (dk_at dksX0_player_0 17 rfl rfl)
theorem dX0_player_19 : decode cX0_player 19 = .ok (.iconst 2, 1) := dk_5 (dk_at dksX0_player_0 19 rfl rfl)
theorem dX0_player_20 : decode cX0_player 20 = .ok (.ireturn, 1) := dk_172 (dk_at dksX0_player_0 20 rfl rfl)
theorem dX0_player_21 : decode cX0_player 21 = .ok (.iconst 0, 1) := dk_3 (dk_at dksX0_player_0 21 rfl rfl)
theorem dX0_player_22 : decode cX0_player 22 = .ok (.ireturn, 1) := dk_172 (dk_at dksX0_player_0 22 rfl rfl)
abbrev cX0_region : ByteArray := method_12_code
def yX0_region : MethodName := ⟨RX0, "region", "(LEnclosureReferee;II[J)I"⟩
def dkwX0_region_0 : List UInt8 := [45, 3, 42, 27, 28, 182, 0, 48, 80, 167, 0, 11, 58, 4, 4, 172, 58, 4, 5, 172, 3, 172]
abbrev dktX0_region_0 : List UInt8 := dkwX0_region_0 ++ []
theorem dksX0_region_0 : cX0_region.data.toList.drop 0 = dktX0_region_0 := by decide +kernel
theorem dX0_region_0 : decode cX0_region 0 = .ok (.aload_n 3, 1) := dk_45 (dk_at dksX0_region_0 0 rfl rfl)
theorem dX0_region_1 : decode cX0_region 1 = .ok (.iconst 0, 1) := dk_3 (dk_at dksX0_region_0 1 rfl rfl)
theorem dX0_region_2 : decode cX0_region 2 = .ok (.aload_n 0, 1) := dk_42 (dk_at dksX0_region_0 2 rfl rfl)
theorem dX0_region_3 : decode cX0_region 3 = .ok (.iload_n 1, 1) := dk_27 (dk_at dksX0_region_0 3 rfl rfl)
theorem dX0_region_4 : decode cX0_region 4 = .ok (.iload_n 2, 1) := dk_28 (dk_at dksX0_region_0 4 rfl rfl)
theorem dX0_region_5 : decode cX0_region 5 = .ok (.invokevirtual 48, 3) := dk_182 0 48 (dk_at dksX0_region_0 5 rfl rfl)
theorem dX0_region_8 : decode cX0_region 8 = .ok (.lastore, 1) := dk_80 (dk_at dksX0_region_0 8 rfl rfl)
theorem dX0_region_9 : decode cX0_region 9 = .ok (.goto 11, 3) := dk_167 0 11 (dk_at dksX0_region_0 9 rfl rfl)
theorem dX0_region_12 : decode cX0_region 12 = .ok (.astore 4, 2) := dk_58 4 (dk_at dksX0_region_0 12 rfl rfl)
theorem dX0_region_14 : decode cX0_region 14 = .ok (.iconst 1, 1) := dk_4 (dk_at dksX0_region_0 14 rfl rfl)
theorem dX0_region_15 : decode cX0_region 15 = .ok (.ireturn, 1) := dk_172 (dk_at dksX0_region_0 15 rfl rfl)
theorem dX0_region_16 : decode cX0_region 16 = .ok (.astore 4, 2) := dk_58 4 (dk_at dksX0_region_0 16 rfl rfl)
theorem dX0_region_18 : decode cX0_region 18 = .ok (.iconst 2, 1) := dk_5 (dk_at dksX0_region_0 18 rfl rfl)
theorem dX0_region_19 : decode cX0_region 19 = .ok (.ireturn, 1) := dk_172 (dk_at dksX0_region_0 19 rfl rfl)
theorem dX0_region_20 : decode cX0_region 20 = .ok (.iconst 0, 1) := dk_3 (dk_at dksX0_region_0 20 rfl rfl)
theorem dX0_region_21 : decode cX0_region 21 = .ok (.ireturn, 1) := dk_172 (dk_at dksX0_region_0 21 rfl rfl)
abbrev cX0_cells : ByteArray := method_13_code
def yX0_cells : MethodName := ⟨RX0, "cells", "(LEnclosureReferee;I[J)I"⟩
def dkwX0_cells_0 : List UInt8 := [44, 3, 42, 27, 182, 0, 54, 80, 167, 0, 6, 78, 4, 172, 3, 172]
abbrev dktX0_cells_0 : List UInt8 := dkwX0_cells_0 ++ []
theorem dksX0_cells_0 : cX0_cells.data.toList.drop 0 = dktX0_cells_0 := by decide +kernel
theorem dX0_cells_0 : decode cX0_cells 0 = .ok (.aload_n 2, 1) := dk_44 (dk_at dksX0_cells_0 0 rfl rfl)
theorem dX0_cells_1 : decode cX0_cells 1 = .ok (.iconst 0, 1) := dk_3 (dk_at dksX0_cells_0 1 rfl rfl)
theorem dX0_cells_2 : decode cX0_cells 2 = .ok (.aload_n 0, 1) := dk_42 (dk_at dksX0_cells_0 2 rfl rfl)
theorem dX0_cells_3 : decode cX0_cells 3 = .ok (.iload_n 1, 1) := dk_27 (dk_at dksX0_cells_0 3 rfl rfl)
theorem dX0_cells_4 : decode cX0_cells 4 = .ok (.invokevirtual 54, 3) := dk_182 0 54 (dk_at dksX0_cells_0 4 rfl rfl)
theorem dX0_cells_7 : decode cX0_cells 7 = .ok (.lastore, 1) := dk_80 (dk_at dksX0_cells_0 7 rfl rfl)
theorem dX0_cells_8 : decode cX0_cells 8 = .ok (.goto 6, 3) := dk_167 0 6 (dk_at dksX0_cells_0 8 rfl rfl)
theorem dX0_cells_11 : decode cX0_cells 11 = .ok (.astore_n 3, 1) := dk_78 (dk_at dksX0_cells_0 11 rfl rfl)
theorem dX0_cells_12 : decode cX0_cells 12 = .ok (.iconst 1, 1) := dk_4 (dk_at dksX0_cells_0 12 rfl rfl)
theorem dX0_cells_13 : decode cX0_cells 13 = .ok (.ireturn, 1) := dk_172 (dk_at dksX0_cells_0 13 rfl rfl)
theorem dX0_cells_14 : decode cX0_cells 14 = .ok (.iconst 0, 1) := dk_3 (dk_at dksX0_cells_0 14 rfl rfl)
theorem dX0_cells_15 : decode cX0_cells 15 = .ok (.ireturn, 1) := dk_172 (dk_at dksX0_cells_0 15 rfl rfl)
abbrev cX0_chain : ByteArray := method_14_code
def yX0_chain : MethodName := ⟨RX0, "chain", "(LEnclosureReferee;I[J)I"⟩
def dkwX0_chain_0 : List UInt8 := [44, 3, 42, 27, 182, 0, 58, 80, 167, 0, 9, 78, 4, 172, 78, 5, 172, 3, 172]
abbrev dktX0_chain_0 : List UInt8 := dkwX0_chain_0 ++ []
theorem dksX0_chain_0 : cX0_chain.data.toList.drop 0 = dktX0_chain_0 := by decide +kernel
theorem dX0_chain_0 : decode cX0_chain 0 = .ok (.aload_n 2, 1) := dk_44 (dk_at dksX0_chain_0 0 rfl rfl)
theorem dX0_chain_1 : decode cX0_chain 1 = .ok (.iconst 0, 1) := dk_3 (dk_at dksX0_chain_0 1 rfl rfl)
theorem dX0_chain_2 : decode cX0_chain 2 = .ok (.aload_n 0, 1) := dk_42 (dk_at dksX0_chain_0 2 rfl rfl)
theorem dX0_chain_3 : decode cX0_chain 3 = .ok (.iload_n 1, 1) := dk_27 (dk_at dksX0_chain_0 3 rfl rfl)
theorem dX0_chain_4 : decode cX0_chain 4 = .ok (.invokevirtual 58, 3) := dk_182 0 58 (dk_at dksX0_chain_0 4 rfl rfl)
theorem dX0_chain_7 : decode cX0_chain 7 = .ok (.lastore, 1) := dk_80 (dk_at dksX0_chain_0 7 rfl rfl)
theorem dX0_chain_8 : decode cX0_chain 8 = .ok (.goto 9, 3) := dk_167 0 9 (dk_at dksX0_chain_0 8 rfl rfl)
theorem dX0_chain_11 : decode cX0_chain 11 = .ok (.astore_n 3, 1) := dk_78 (dk_at dksX0_chain_0 11 rfl rfl)
theorem dX0_chain_12 : decode cX0_chain 12 = .ok (.iconst 1, 1) := dk_4 (dk_at dksX0_chain_0 12 rfl rfl)
theorem dX0_chain_13 : decode cX0_chain 13 = .ok (.ireturn, 1) := dk_172 (dk_at dksX0_chain_0 13 rfl rfl)
theorem dX0_chain_14 : decode cX0_chain 14 = .ok (.astore_n 3, 1) := dk_78 (dk_at dksX0_chain_0 14 rfl rfl)
theorem dX0_chain_15 : decode cX0_chain 15 = .ok (.iconst 2, 1) := dk_5 (dk_at dksX0_chain_0 15 rfl rfl)
theorem dX0_chain_16 : decode cX0_chain 16 = .ok (.ireturn, 1) := dk_172 (dk_at dksX0_chain_0 16 rfl rfl)
theorem dX0_chain_17 : decode cX0_chain 17 = .ok (.iconst 0, 1) := dk_3 (dk_at dksX0_chain_0 17 rfl rfl)
theorem dX0_chain_18 : decode cX0_chain 18 = .ok (.ireturn, 1) := dk_172 (dk_at dksX0_chain_0 18 rfl rfl)
abbrev cX0_stonesToEnclose : ByteArray := method_15_code
def yX0_stonesToEnclose : MethodName := ⟨RX0, "stonesToEnclose", "(LEnclosureReferee;II[J)I"⟩
def dkwX0_stonesToEnclose_0 : List UInt8 := [45, 3, 42, 27, 28, 182, 0, 61, 133, 80, 167, 0, 11, 58, 4, 4, 172, 58, 4, 5, 172, 3, 172]
abbrev dktX0_stonesToEnclose_0 : List UInt8 := dkwX0_stonesToEnclose_0 ++ []
theorem dksX0_stonesToEnclose_0 : cX0_stonesToEnclose.data.toList.drop 0 = dktX0_stonesToEnclose_0 := by decide +kernel
theorem dX0_stonesToEnclose_0 : decode cX0_stonesToEnclose 0 = .ok (.aload_n 3, 1) := dk_45 (dk_at dksX0_stonesToEnclose_0 0 rfl rfl)
theorem dX0_stonesToEnclose_1 : decode cX0_stonesToEnclose 1 = .ok (.iconst 0, 1) := dk_3 (dk_at dksX0_stonesToEnclose_0 1 rfl rfl)
theorem dX0_stonesToEnclose_2 : decode cX0_stonesToEnclose 2 = .ok (.aload_n 0, 1) := dk_42 (dk_at dksX0_stonesToEnclose_0 2 rfl rfl)
theorem dX0_stonesToEnclose_3 : decode cX0_stonesToEnclose 3 = .ok (.iload_n 1, 1) := dk_27 (dk_at dksX0_stonesToEnclose_0 3 rfl rfl)
theorem dX0_stonesToEnclose_4 : decode cX0_stonesToEnclose 4 = .ok (.iload_n 2, 1) := dk_28 (dk_at dksX0_stonesToEnclose_0 4 rfl rfl)
theorem dX0_stonesToEnclose_5 : decode cX0_stonesToEnclose 5 = .ok (.invokevirtual 61, 3) := dk_182 0 61 (dk_at dksX0_stonesToEnclose_0 5 rfl rfl)
theorem dX0_stonesToEnclose_8 : decode cX0_stonesToEnclose 8 = .ok (.i2l, 1) := dk_133 (dk_at dksX0_stonesToEnclose_0 8 rfl rfl)
theorem dX0_stonesToEnclose_9 : decode cX0_stonesToEnclose 9 = .ok (.lastore, 1) := dk_80 (dk_at dksX0_stonesToEnclose_0 9 rfl rfl)
theorem dX0_stonesToEnclose_10 : decode cX0_stonesToEnclose 10 = .ok (.goto 11, 3) := dk_167 0 11 (dk_at dksX0_stonesToEnclose_0 10 rfl rfl)
theorem dX0_stonesToEnclose_13 : decode cX0_stonesToEnclose 13 = .ok (.astore 4, 2) := dk_58 4 (dk_at dksX0_stonesToEnclose_0 13 rfl rfl)
theorem dX0_stonesToEnclose_15 : decode cX0_stonesToEnclose 15 = .ok (.iconst 1, 1) := dk_4 (dk_at dksX0_stonesToEnclose_0 15 rfl rfl)
theorem dX0_stonesToEnclose_16 : decode cX0_stonesToEnclose 16 = .ok (.ireturn, 1) := dk_172 (dk_at dksX0_stonesToEnclose_0 16 rfl rfl)
theorem dX0_stonesToEnclose_17 : decode cX0_stonesToEnclose 17 = .ok (.astore 4, 2) := dk_58 4 (dk_at dksX0_stonesToEnclose_0 17 rfl rfl)
theorem dX0_stonesToEnclose_19 : decode cX0_stonesToEnclose 19 = .ok (.iconst 2, 1) := dk_5 (dk_at dksX0_stonesToEnclose_0 19 rfl rfl)
theorem dX0_stonesToEnclose_20 : decode cX0_stonesToEnclose 20 = .ok (.ireturn, 1) := dk_172 (dk_at dksX0_stonesToEnclose_0 20 rfl rfl)
theorem dX0_stonesToEnclose_21 : decode cX0_stonesToEnclose 21 = .ok (.iconst 0, 1) := dk_3 (dk_at dksX0_stonesToEnclose_0 21 rfl rfl)
theorem dX0_stonesToEnclose_22 : decode cX0_stonesToEnclose 22 = .ok (.ireturn, 1) := dk_172 (dk_at dksX0_stonesToEnclose_0 22 rfl rfl)
abbrev cX0_share : ByteArray := method_16_code
def yX0_share : MethodName := ⟨RX0, "share", "(LEnclosureReferee;I[D)I"⟩
def dkwX0_share_0 : List UInt8 := [44, 3, 42, 27, 182, 0, 64, 82, 167, 0, 6, 78, 4, 172, 3, 172]
abbrev dktX0_share_0 : List UInt8 := dkwX0_share_0 ++ []
theorem dksX0_share_0 : cX0_share.data.toList.drop 0 = dktX0_share_0 := by decide +kernel
theorem dX0_share_0 : decode cX0_share 0 = .ok (.aload_n 2, 1) := dk_44 (dk_at dksX0_share_0 0 rfl rfl)
theorem dX0_share_1 : decode cX0_share 1 = .ok (.iconst 0, 1) := dk_3 (dk_at dksX0_share_0 1 rfl rfl)
theorem dX0_share_2 : decode cX0_share 2 = .ok (.aload_n 0, 1) := dk_42 (dk_at dksX0_share_0 2 rfl rfl)
theorem dX0_share_3 : decode cX0_share 3 = .ok (.iload_n 1, 1) := dk_27 (dk_at dksX0_share_0 3 rfl rfl)
theorem dX0_share_4 : decode cX0_share 4 = .ok (.invokevirtual 64, 3) := dk_182 0 64 (dk_at dksX0_share_0 4 rfl rfl)
theorem dX0_share_7 : decode cX0_share 7 = .ok (.dastore, 1) := dk_82 (dk_at dksX0_share_0 7 rfl rfl)
theorem dX0_share_8 : decode cX0_share 8 = .ok (.goto 6, 3) := dk_167 0 6 (dk_at dksX0_share_0 8 rfl rfl)
theorem dX0_share_11 : decode cX0_share 11 = .ok (.astore_n 3, 1) := dk_78 (dk_at dksX0_share_0 11 rfl rfl)
theorem dX0_share_12 : decode cX0_share 12 = .ok (.iconst 1, 1) := dk_4 (dk_at dksX0_share_0 12 rfl rfl)
theorem dX0_share_13 : decode cX0_share 13 = .ok (.ireturn, 1) := dk_172 (dk_at dksX0_share_0 13 rfl rfl)
theorem dX0_share_14 : decode cX0_share 14 = .ok (.iconst 0, 1) := dk_3 (dk_at dksX0_share_0 14 rfl rfl)
theorem dX0_share_15 : decode cX0_share 15 = .ok (.ireturn, 1) := dk_172 (dk_at dksX0_share_0 15 rfl rfl)
abbrev cX0_round : ByteArray := method_17_code
def yX0_round : MethodName := ⟨RX0, "round", "(LEnclosureReferee;II[J)I"⟩
def dkwX0_round_0 : List UInt8 := [45, 3, 42, 27, 28, 182, 0, 68, 133, 80, 167, 0, 11, 58, 4, 4, 172, 58, 4, 5, 172, 3, 172]
abbrev dktX0_round_0 : List UInt8 := dkwX0_round_0 ++ []
theorem dksX0_round_0 : cX0_round.data.toList.drop 0 = dktX0_round_0 := by decide +kernel
theorem dX0_round_0 : decode cX0_round 0 = .ok (.aload_n 3, 1) := dk_45 (dk_at dksX0_round_0 0 rfl rfl)
theorem dX0_round_1 : decode cX0_round 1 = .ok (.iconst 0, 1) := dk_3 (dk_at dksX0_round_0 1 rfl rfl)
theorem dX0_round_2 : decode cX0_round 2 = .ok (.aload_n 0, 1) := dk_42 (dk_at dksX0_round_0 2 rfl rfl)
theorem dX0_round_3 : decode cX0_round 3 = .ok (.iload_n 1, 1) := dk_27 (dk_at dksX0_round_0 3 rfl rfl)
theorem dX0_round_4 : decode cX0_round 4 = .ok (.iload_n 2, 1) := dk_28 (dk_at dksX0_round_0 4 rfl rfl)
theorem dX0_round_5 : decode cX0_round 5 = .ok (.invokevirtual 68, 3) := dk_182 0 68 (dk_at dksX0_round_0 5 rfl rfl)
theorem dX0_round_8 : decode cX0_round 8 = .ok (.i2l, 1) := dk_133 (dk_at dksX0_round_0 8 rfl rfl)
theorem dX0_round_9 : decode cX0_round 9 = .ok (.lastore, 1) := dk_80 (dk_at dksX0_round_0 9 rfl rfl)
theorem dX0_round_10 : decode cX0_round 10 = .ok (.goto 11, 3) := dk_167 0 11 (dk_at dksX0_round_0 10 rfl rfl)
theorem dX0_round_13 : decode cX0_round 13 = .ok (.astore 4, 2) := dk_58 4 (dk_at dksX0_round_0 13 rfl rfl)
theorem dX0_round_15 : decode cX0_round 15 = .ok (.iconst 1, 1) := dk_4 (dk_at dksX0_round_0 15 rfl rfl)
theorem dX0_round_16 : decode cX0_round 16 = .ok (.ireturn, 1) := dk_172 (dk_at dksX0_round_0 16 rfl rfl)
theorem dX0_round_17 : decode cX0_round 17 = .ok (.astore 4, 2) := dk_58 4 (dk_at dksX0_round_0 17 rfl rfl)
theorem dX0_round_19 : decode cX0_round 19 = .ok (.iconst 2, 1) := dk_5 (dk_at dksX0_round_0 19 rfl rfl)
theorem dX0_round_20 : decode cX0_round 20 = .ok (.ireturn, 1) := dk_172 (dk_at dksX0_round_0 20 rfl rfl)
theorem dX0_round_21 : decode cX0_round 21 = .ok (.iconst 0, 1) := dk_3 (dk_at dksX0_round_0 21 rfl rfl)
theorem dX0_round_22 : decode cX0_round 22 = .ok (.ireturn, 1) := dk_172 (dk_at dksX0_round_0 22 rfl rfl)
abbrev cX0_turningPoint : ByteArray := method_18_code
def yX0_turningPoint : MethodName := ⟨RX0, "turningPoint", "(LEnclosureReferee;[J)I"⟩
def dkwX0_turningPoint_0 : List UInt8 := [43, 3, 42, 182, 0, 71, 133, 80, 167, 0, 6, 77, 4, 172, 3, 172]
abbrev dktX0_turningPoint_0 : List UInt8 := dkwX0_turningPoint_0 ++ []
theorem dksX0_turningPoint_0 : cX0_turningPoint.data.toList.drop 0 = dktX0_turningPoint_0 := by decide +kernel
theorem dX0_turningPoint_0 : decode cX0_turningPoint 0 = .ok (.aload_n 1, 1) := dk_43 (dk_at dksX0_turningPoint_0 0 rfl rfl)
theorem dX0_turningPoint_1 : decode cX0_turningPoint 1 = .ok (.iconst 0, 1) := dk_3 (dk_at dksX0_turningPoint_0 1 rfl rfl)
theorem dX0_turningPoint_2 : decode cX0_turningPoint 2 = .ok (.aload_n 0, 1) := dk_42 (dk_at dksX0_turningPoint_0 2 rfl rfl)
theorem dX0_turningPoint_3 : decode cX0_turningPoint 3 = .ok (.invokevirtual 71, 3) := dk_182 0 71 (dk_at dksX0_turningPoint_0 3 rfl rfl)
theorem dX0_turningPoint_6 : decode cX0_turningPoint 6 = .ok (.i2l, 1) := dk_133 (dk_at dksX0_turningPoint_0 6 rfl rfl)
theorem dX0_turningPoint_7 : decode cX0_turningPoint 7 = .ok (.lastore, 1) := dk_80 (dk_at dksX0_turningPoint_0 7 rfl rfl)
theorem dX0_turningPoint_8 : decode cX0_turningPoint 8 = .ok (.goto 6, 3) := dk_167 0 6 (dk_at dksX0_turningPoint_0 8 rfl rfl)
theorem dX0_turningPoint_11 : decode cX0_turningPoint 11 = .ok (.astore_n 2, 1) := dk_77 (dk_at dksX0_turningPoint_0 11 rfl rfl)
theorem dX0_turningPoint_12 : decode cX0_turningPoint 12 = .ok (.iconst 1, 1) := dk_4 (dk_at dksX0_turningPoint_0 12 rfl rfl)
theorem dX0_turningPoint_13 : decode cX0_turningPoint 13 = .ok (.ireturn, 1) := dk_172 (dk_at dksX0_turningPoint_0 13 rfl rfl)
theorem dX0_turningPoint_14 : decode cX0_turningPoint 14 = .ok (.iconst 0, 1) := dk_3 (dk_at dksX0_turningPoint_0 14 rfl rfl)
theorem dX0_turningPoint_15 : decode cX0_turningPoint 15 = .ok (.ireturn, 1) := dk_172 (dk_at dksX0_turningPoint_0 15 rfl rfl)
abbrev cX0_guarantee : ByteArray := method_19_code
def yX0_guarantee : MethodName := ⟨RX0, "guarantee", "(LEnclosureReferee;III[J)I"⟩
def dkwX0_guarantee_1 : List UInt8 := [58, 5, 6, 172, 3, 172]
abbrev dktX0_guarantee_1 : List UInt8 := dkwX0_guarantee_1 ++ []
def dkwX0_guarantee_0 : List UInt8 := [25, 4, 3, 42, 27, 28, 29, 182, 0, 74, 133, 80, 167, 0, 15, 58, 5, 4, 172, 58, 5, 5, 172]
abbrev dktX0_guarantee_0 : List UInt8 := dkwX0_guarantee_0 ++ dktX0_guarantee_1
theorem dksX0_guarantee_0 : cX0_guarantee.data.toList.drop 0 = dktX0_guarantee_0 := by decide +kernel
theorem dksX0_guarantee_1 : cX0_guarantee.data.toList.drop 23 = dktX0_guarantee_1 := dk_seg dksX0_guarantee_0 23 rfl rfl
theorem dX0_guarantee_0 : decode cX0_guarantee 0 = .ok (.aload 4, 2) := dk_25 4 (dk_at dksX0_guarantee_0 0 rfl rfl)
theorem dX0_guarantee_2 : decode cX0_guarantee 2 = .ok (.iconst 0, 1) := dk_3 (dk_at dksX0_guarantee_0 2 rfl rfl)
theorem dX0_guarantee_3 : decode cX0_guarantee 3 = .ok (.aload_n 0, 1) := dk_42 (dk_at dksX0_guarantee_0 3 rfl rfl)
theorem dX0_guarantee_4 : decode cX0_guarantee 4 = .ok (.iload_n 1, 1) := dk_27 (dk_at dksX0_guarantee_0 4 rfl rfl)
theorem dX0_guarantee_5 : decode cX0_guarantee 5 = .ok (.iload_n 2, 1) := dk_28 (dk_at dksX0_guarantee_0 5 rfl rfl)
theorem dX0_guarantee_6 : decode cX0_guarantee 6 = .ok (.iload_n 3, 1) := dk_29 (dk_at dksX0_guarantee_0 6 rfl rfl)
theorem dX0_guarantee_7 : decode cX0_guarantee 7 = .ok (.invokevirtual 74, 3) := dk_182 0 74 (dk_at dksX0_guarantee_0 7 rfl rfl)
theorem dX0_guarantee_10 : decode cX0_guarantee 10 = .ok (.i2l, 1) := dk_133 (dk_at dksX0_guarantee_0 10 rfl rfl)
theorem dX0_guarantee_11 : decode cX0_guarantee 11 = .ok (.lastore, 1) := dk_80 (dk_at dksX0_guarantee_0 11 rfl rfl)
theorem dX0_guarantee_12 : decode cX0_guarantee 12 = .ok (.goto 15, 3) := dk_167 0 15 (dk_at dksX0_guarantee_0 12 rfl rfl)
theorem dX0_guarantee_15 : decode cX0_guarantee 15 = .ok (.astore 5, 2) := dk_58 5 (dk_at dksX0_guarantee_0 15 rfl rfl)
theorem dX0_guarantee_17 : decode cX0_guarantee 17 = .ok (.iconst 1, 1) := dk_4 (dk_at dksX0_guarantee_0 17 rfl rfl)
theorem dX0_guarantee_18 : decode cX0_guarantee 18 = .ok (.ireturn, 1) := dk_172 (dk_at dksX0_guarantee_0 18 rfl rfl)
theorem dX0_guarantee_19 : decode cX0_guarantee 19 = .ok (.astore 5, 2) := dk_58 5 (dk_at dksX0_guarantee_0 19 rfl rfl)
theorem dX0_guarantee_21 : decode cX0_guarantee 21 = .ok (.iconst 2, 1) := dk_5 (dk_at dksX0_guarantee_0 21 rfl rfl)
theorem dX0_guarantee_22 : decode cX0_guarantee 22 = .ok (.ireturn, 1) := dk_172 (dk_at dksX0_guarantee_0 22 rfl rfl)
theorem dX0_guarantee_23 : decode cX0_guarantee 23 = .ok (.astore 5, 2) := dk_58 5 (dk_at dksX0_guarantee_1 0 rfl rfl)
theorem dX0_guarantee_25 : decode cX0_guarantee 25 = .ok (.iconst 3, 1) := dk_6 (dk_at dksX0_guarantee_1 2 rfl rfl)
theorem dX0_guarantee_26 : decode cX0_guarantee 26 = .ok (.ireturn, 1) := dk_172 (dk_at dksX0_guarantee_1 3 rfl rfl)
theorem dX0_guarantee_27 : decode cX0_guarantee 27 = .ok (.iconst 0, 1) := dk_3 (dk_at dksX0_guarantee_1 4 rfl rfl)
theorem dX0_guarantee_28 : decode cX0_guarantee 28 = .ok (.ireturn, 1) := dk_172 (dk_at dksX0_guarantee_1 5 rfl rfl)
abbrev cX0_best : ByteArray := method_20_code
def yX0_best : MethodName := ⟨RX0, "best", "(LEnclosureReferee;II[J)I"⟩
def dkwX0_best_1 : List UInt8 := [172, 3, 172]
abbrev dktX0_best_1 : List UInt8 := dkwX0_best_1 ++ []
def dkwX0_best_0 : List UInt8 := [45, 3, 42, 27, 28, 182, 0, 77, 133, 80, 167, 0, 15, 58, 4, 4, 172, 58, 4, 5, 172, 58, 4, 6]
abbrev dktX0_best_0 : List UInt8 := dkwX0_best_0 ++ dktX0_best_1
theorem dksX0_best_0 : cX0_best.data.toList.drop 0 = dktX0_best_0 := by decide +kernel
theorem dksX0_best_1 : cX0_best.data.toList.drop 24 = dktX0_best_1 := dk_seg dksX0_best_0 24 rfl rfl
theorem dX0_best_0 : decode cX0_best 0 = .ok (.aload_n 3, 1) := dk_45 (dk_at dksX0_best_0 0 rfl rfl)
theorem dX0_best_1 : decode cX0_best 1 = .ok (.iconst 0, 1) := dk_3 (dk_at dksX0_best_0 1 rfl rfl)
theorem dX0_best_2 : decode cX0_best 2 = .ok (.aload_n 0, 1) := dk_42 (dk_at dksX0_best_0 2 rfl rfl)
theorem dX0_best_3 : decode cX0_best 3 = .ok (.iload_n 1, 1) := dk_27 (dk_at dksX0_best_0 3 rfl rfl)
theorem dX0_best_4 : decode cX0_best 4 = .ok (.iload_n 2, 1) := dk_28 (dk_at dksX0_best_0 4 rfl rfl)
theorem dX0_best_5 : decode cX0_best 5 = .ok (.invokevirtual 77, 3) := dk_182 0 77 (dk_at dksX0_best_0 5 rfl rfl)
theorem dX0_best_8 : decode cX0_best 8 = .ok (.i2l, 1) := dk_133 (dk_at dksX0_best_0 8 rfl rfl)
theorem dX0_best_9 : decode cX0_best 9 = .ok (.lastore, 1) := dk_80 (dk_at dksX0_best_0 9 rfl rfl)
theorem dX0_best_10 : decode cX0_best 10 = .ok (.goto 15, 3) := dk_167 0 15 (dk_at dksX0_best_0 10 rfl rfl)
theorem dX0_best_13 : decode cX0_best 13 = .ok (.astore 4, 2) := dk_58 4 (dk_at dksX0_best_0 13 rfl rfl)
theorem dX0_best_15 : decode cX0_best 15 = .ok (.iconst 1, 1) := dk_4 (dk_at dksX0_best_0 15 rfl rfl)
theorem dX0_best_16 : decode cX0_best 16 = .ok (.ireturn, 1) := dk_172 (dk_at dksX0_best_0 16 rfl rfl)
theorem dX0_best_17 : decode cX0_best 17 = .ok (.astore 4, 2) := dk_58 4 (dk_at dksX0_best_0 17 rfl rfl)
theorem dX0_best_19 : decode cX0_best 19 = .ok (.iconst 2, 1) := dk_5 (dk_at dksX0_best_0 19 rfl rfl)
theorem dX0_best_20 : decode cX0_best 20 = .ok (.ireturn, 1) := dk_172 (dk_at dksX0_best_0 20 rfl rfl)
theorem dX0_best_21 : decode cX0_best 21 = .ok (.astore 4, 2) := dk_58 4 (dk_at dksX0_best_0 21 rfl rfl)
theorem dX0_best_23 : decode cX0_best 23 = .ok (.iconst 3, 1) := dk_6 (dk_at dksX0_best_0 23 rfl rfl)
theorem dX0_best_24 : decode cX0_best 24 = .ok (.ireturn, 1) := dk_172 (dk_at dksX0_best_1 0 rfl rfl)
theorem dX0_best_25 : decode cX0_best 25 = .ok (.iconst 0, 1) := dk_3 (dk_at dksX0_best_1 1 rfl rfl)
theorem dX0_best_26 : decode cX0_best 26 = .ok (.ireturn, 1) := dk_172 (dk_at dksX0_best_1 2 rfl rfl)
abbrev cX0_report : ByteArray := method_21_code
def yX0_report : MethodName := ⟨RX0, "report", "(LEnclosureReferee;II[J)I"⟩
def dkwX0_report_0 : List UInt8 := [45, 3, 42, 27, 28, 182, 0, 80, 133, 80, 167, 0, 11, 58, 4, 4, 172, 58, 4, 5, 172, 3, 172]
abbrev dktX0_report_0 : List UInt8 := dkwX0_report_0 ++ []
theorem dksX0_report_0 : cX0_report.data.toList.drop 0 = dktX0_report_0 := by decide +kernel
theorem dX0_report_0 : decode cX0_report 0 = .ok (.aload_n 3, 1) := dk_45 (dk_at dksX0_report_0 0 rfl rfl)
theorem dX0_report_1 : decode cX0_report 1 = .ok (.iconst 0, 1) := dk_3 (dk_at dksX0_report_0 1 rfl rfl)
theorem dX0_report_2 : decode cX0_report 2 = .ok (.aload_n 0, 1) := dk_42 (dk_at dksX0_report_0 2 rfl rfl)
theorem dX0_report_3 : decode cX0_report 3 = .ok (.iload_n 1, 1) := dk_27 (dk_at dksX0_report_0 3 rfl rfl)
theorem dX0_report_4 : decode cX0_report 4 = .ok (.iload_n 2, 1) := dk_28 (dk_at dksX0_report_0 4 rfl rfl)
theorem dX0_report_5 : decode cX0_report 5 = .ok (.invokevirtual 80, 3) := dk_182 0 80 (dk_at dksX0_report_0 5 rfl rfl)
theorem dX0_report_8 : decode cX0_report 8 = .ok (.i2l, 1) := dk_133 (dk_at dksX0_report_0 8 rfl rfl)
theorem dX0_report_9 : decode cX0_report 9 = .ok (.lastore, 1) := dk_80 (dk_at dksX0_report_0 9 rfl rfl)
theorem dX0_report_10 : decode cX0_report 10 = .ok (.goto 11, 3) := dk_167 0 11 (dk_at dksX0_report_0 10 rfl rfl)
theorem dX0_report_13 : decode cX0_report 13 = .ok (.astore 4, 2) := dk_58 4 (dk_at dksX0_report_0 13 rfl rfl)
theorem dX0_report_15 : decode cX0_report 15 = .ok (.iconst 1, 1) := dk_4 (dk_at dksX0_report_0 15 rfl rfl)
theorem dX0_report_16 : decode cX0_report 16 = .ok (.ireturn, 1) := dk_172 (dk_at dksX0_report_0 16 rfl rfl)
theorem dX0_report_17 : decode cX0_report 17 = .ok (.astore 4, 2) := dk_58 4 (dk_at dksX0_report_0 17 rfl rfl)
theorem dX0_report_19 : decode cX0_report 19 = .ok (.iconst 2, 1) := dk_5 (dk_at dksX0_report_0 19 rfl rfl)
theorem dX0_report_20 : decode cX0_report 20 = .ok (.ireturn, 1) := dk_172 (dk_at dksX0_report_0 20 rfl rfl)
theorem dX0_report_21 : decode cX0_report 21 = .ok (.iconst 0, 1) := dk_3 (dk_at dksX0_report_0 21 rfl rfl)
theorem dX0_report_22 : decode cX0_report 22 = .ok (.ireturn, 1) := dk_172 (dk_at dksX0_report_0 22 rfl rfl)
abbrev cX0_feed : ByteArray := method_22_code
def yX0_feed : MethodName := ⟨RX0, "feed", "(LEnclosureReferee;C[J)I"⟩
def dkwX0_feed_0 : List UInt8 := [44, 3, 42, 27, 182, 0, 83, 133, 80, 167, 0, 6, 78, 4, 172, 3, 172]
abbrev dktX0_feed_0 : List UInt8 := dkwX0_feed_0 ++ []
theorem dksX0_feed_0 : cX0_feed.data.toList.drop 0 = dktX0_feed_0 := by decide +kernel
theorem dX0_feed_0 : decode cX0_feed 0 = .ok (.aload_n 2, 1) := dk_44 (dk_at dksX0_feed_0 0 rfl rfl)
theorem dX0_feed_1 : decode cX0_feed 1 = .ok (.iconst 0, 1) := dk_3 (dk_at dksX0_feed_0 1 rfl rfl)
theorem dX0_feed_2 : decode cX0_feed 2 = .ok (.aload_n 0, 1) := dk_42 (dk_at dksX0_feed_0 2 rfl rfl)
theorem dX0_feed_3 : decode cX0_feed 3 = .ok (.iload_n 1, 1) := dk_27 (dk_at dksX0_feed_0 3 rfl rfl)
theorem dX0_feed_4 : decode cX0_feed 4 = .ok (.invokevirtual 83, 3) := dk_182 0 83 (dk_at dksX0_feed_0 4 rfl rfl)
theorem dX0_feed_7 : decode cX0_feed 7 = .ok (.i2l, 1) := dk_133 (dk_at dksX0_feed_0 7 rfl rfl)
theorem dX0_feed_8 : decode cX0_feed 8 = .ok (.lastore, 1) := dk_80 (dk_at dksX0_feed_0 8 rfl rfl)
theorem dX0_feed_9 : decode cX0_feed 9 = .ok (.goto 6, 3) := dk_167 0 6 (dk_at dksX0_feed_0 9 rfl rfl)
theorem dX0_feed_12 : decode cX0_feed 12 = .ok (.astore_n 3, 1) := dk_78 (dk_at dksX0_feed_0 12 rfl rfl)
theorem dX0_feed_13 : decode cX0_feed 13 = .ok (.iconst 1, 1) := dk_4 (dk_at dksX0_feed_0 13 rfl rfl)
theorem dX0_feed_14 : decode cX0_feed 14 = .ok (.ireturn, 1) := dk_172 (dk_at dksX0_feed_0 14 rfl rfl)
theorem dX0_feed_15 : decode cX0_feed 15 = .ok (.iconst 0, 1) := dk_3 (dk_at dksX0_feed_0 15 rfl rfl)
theorem dX0_feed_16 : decode cX0_feed 16 = .ok (.ireturn, 1) := dk_172 (dk_at dksX0_feed_0 16 rfl rfl)
abbrev cX0_readRecord : ByteArray := method_23_code
def yX0_readRecord : MethodName := ⟨RX0, "readRecord", "(LEnclosureReferee;[J)I"⟩
def dkwX0_readRecord_0 : List UInt8 := [43, 3, 42, 182, 0, 87, 133, 80, 167, 0, 6, 77, 4, 172, 3, 172]
abbrev dktX0_readRecord_0 : List UInt8 := dkwX0_readRecord_0 ++ []
theorem dksX0_readRecord_0 : cX0_readRecord.data.toList.drop 0 = dktX0_readRecord_0 := by decide +kernel
theorem dX0_readRecord_0 : decode cX0_readRecord 0 = .ok (.aload_n 1, 1) := dk_43 (dk_at dksX0_readRecord_0 0 rfl rfl)
theorem dX0_readRecord_1 : decode cX0_readRecord 1 = .ok (.iconst 0, 1) := dk_3 (dk_at dksX0_readRecord_0 1 rfl rfl)
theorem dX0_readRecord_2 : decode cX0_readRecord 2 = .ok (.aload_n 0, 1) := dk_42 (dk_at dksX0_readRecord_0 2 rfl rfl)
theorem dX0_readRecord_3 : decode cX0_readRecord 3 = .ok (.invokevirtual 87, 3) := dk_182 0 87 (dk_at dksX0_readRecord_0 3 rfl rfl)
theorem dX0_readRecord_6 : decode cX0_readRecord 6 = .ok (.i2l, 1) := dk_133 (dk_at dksX0_readRecord_0 6 rfl rfl)
theorem dX0_readRecord_7 : decode cX0_readRecord 7 = .ok (.lastore, 1) := dk_80 (dk_at dksX0_readRecord_0 7 rfl rfl)
theorem dX0_readRecord_8 : decode cX0_readRecord 8 = .ok (.goto 6, 3) := dk_167 0 6 (dk_at dksX0_readRecord_0 8 rfl rfl)
theorem dX0_readRecord_11 : decode cX0_readRecord 11 = .ok (.astore_n 2, 1) := dk_77 (dk_at dksX0_readRecord_0 11 rfl rfl)
theorem dX0_readRecord_12 : decode cX0_readRecord 12 = .ok (.iconst 1, 1) := dk_4 (dk_at dksX0_readRecord_0 12 rfl rfl)
theorem dX0_readRecord_13 : decode cX0_readRecord 13 = .ok (.ireturn, 1) := dk_172 (dk_at dksX0_readRecord_0 13 rfl rfl)
theorem dX0_readRecord_14 : decode cX0_readRecord 14 = .ok (.iconst 0, 1) := dk_3 (dk_at dksX0_readRecord_0 14 rfl rfl)
theorem dX0_readRecord_15 : decode cX0_readRecord 15 = .ok (.ireturn, 1) := dk_172 (dk_at dksX0_readRecord_0 15 rfl rfl)
abbrev cX0_written : ByteArray := method_24_code
def yX0_written : MethodName := ⟨RX0, "written", "(LEnclosureReferee;I[J)I"⟩
def dkwX0_written_0 : List UInt8 := [44, 3, 42, 27, 182, 0, 90, 133, 80, 167, 0, 6, 78, 4, 172, 3, 172]
abbrev dktX0_written_0 : List UInt8 := dkwX0_written_0 ++ []
theorem dksX0_written_0 : cX0_written.data.toList.drop 0 = dktX0_written_0 := by decide +kernel
theorem dX0_written_0 : decode cX0_written 0 = .ok (.aload_n 2, 1) := dk_44 (dk_at dksX0_written_0 0 rfl rfl)
theorem dX0_written_1 : decode cX0_written 1 = .ok (.iconst 0, 1) := dk_3 (dk_at dksX0_written_0 1 rfl rfl)
theorem dX0_written_2 : decode cX0_written 2 = .ok (.aload_n 0, 1) := dk_42 (dk_at dksX0_written_0 2 rfl rfl)
theorem dX0_written_3 : decode cX0_written 3 = .ok (.iload_n 1, 1) := dk_27 (dk_at dksX0_written_0 3 rfl rfl)
theorem dX0_written_4 : decode cX0_written 4 = .ok (.invokevirtual 90, 3) := dk_182 0 90 (dk_at dksX0_written_0 4 rfl rfl)
theorem dX0_written_7 : decode cX0_written 7 = .ok (.i2l, 1) := dk_133 (dk_at dksX0_written_0 7 rfl rfl)
theorem dX0_written_8 : decode cX0_written 8 = .ok (.lastore, 1) := dk_80 (dk_at dksX0_written_0 8 rfl rfl)
theorem dX0_written_9 : decode cX0_written 9 = .ok (.goto 6, 3) := dk_167 0 6 (dk_at dksX0_written_0 9 rfl rfl)
theorem dX0_written_12 : decode cX0_written 12 = .ok (.astore_n 3, 1) := dk_78 (dk_at dksX0_written_0 12 rfl rfl)
theorem dX0_written_13 : decode cX0_written 13 = .ok (.iconst 1, 1) := dk_4 (dk_at dksX0_written_0 13 rfl rfl)
theorem dX0_written_14 : decode cX0_written 14 = .ok (.ireturn, 1) := dk_172 (dk_at dksX0_written_0 14 rfl rfl)
theorem dX0_written_15 : decode cX0_written 15 = .ok (.iconst 0, 1) := dk_3 (dk_at dksX0_written_0 15 rfl rfl)
theorem dX0_written_16 : decode cX0_written 16 = .ok (.ireturn, 1) := dk_172 (dk_at dksX0_written_0 16 rfl rfl)
abbrev cX0_restore : ByteArray := method_25_code
def yX0_restore : MethodName := ⟨RX0, "restore", "(LEnclosureReferee;[J)I"⟩
def dkwX0_restore_0 : List UInt8 := [43, 3, 42, 182, 0, 94, 133, 80, 167, 0, 6, 77, 4, 172, 3, 172]
abbrev dktX0_restore_0 : List UInt8 := dkwX0_restore_0 ++ []
theorem dksX0_restore_0 : cX0_restore.data.toList.drop 0 = dktX0_restore_0 := by decide +kernel
theorem dX0_restore_0 : decode cX0_restore 0 = .ok (.aload_n 1, 1) := dk_43 (dk_at dksX0_restore_0 0 rfl rfl)
theorem dX0_restore_1 : decode cX0_restore 1 = .ok (.iconst 0, 1) := dk_3 (dk_at dksX0_restore_0 1 rfl rfl)
theorem dX0_restore_2 : decode cX0_restore 2 = .ok (.aload_n 0, 1) := dk_42 (dk_at dksX0_restore_0 2 rfl rfl)
theorem dX0_restore_3 : decode cX0_restore 3 = .ok (.invokevirtual 94, 3) := dk_182 0 94 (dk_at dksX0_restore_0 3 rfl rfl)
theorem dX0_restore_6 : decode cX0_restore 6 = .ok (.i2l, 1) := dk_133 (dk_at dksX0_restore_0 6 rfl rfl)
theorem dX0_restore_7 : decode cX0_restore 7 = .ok (.lastore, 1) := dk_80 (dk_at dksX0_restore_0 7 rfl rfl)
theorem dX0_restore_8 : decode cX0_restore 8 = .ok (.goto 6, 3) := dk_167 0 6 (dk_at dksX0_restore_0 8 rfl rfl)
theorem dX0_restore_11 : decode cX0_restore 11 = .ok (.astore_n 2, 1) := dk_77 (dk_at dksX0_restore_0 11 rfl rfl)
theorem dX0_restore_12 : decode cX0_restore 12 = .ok (.iconst 1, 1) := dk_4 (dk_at dksX0_restore_0 12 rfl rfl)
theorem dX0_restore_13 : decode cX0_restore 13 = .ok (.ireturn, 1) := dk_172 (dk_at dksX0_restore_0 13 rfl rfl)
theorem dX0_restore_14 : decode cX0_restore 14 = .ok (.iconst 0, 1) := dk_3 (dk_at dksX0_restore_0 14 rfl rfl)
theorem dX0_restore_15 : decode cX0_restore 15 = .ok (.ireturn, 1) := dk_172 (dk_at dksX0_restore_0 15 rfl rfl)
theorem q66 : (Jvm.Cond.initialized "EnclosureRefereeLaw") ∈ lw_all := lw_g (lw_at lw_m1 0 rfl) rfl
theorem q107 : (Jvm.Cond.classLink "EnclosureRefereeLaw" (8 : Nat) "EnclosureReferee") ∈ lw_all := lw_g (lw_at lw_m1 41 rfl) rfl
theorem q109 : (Jvm.Cond.methodLink "EnclosureRefereeLaw" (97 : Nat) ({ cls := "EnclosureReferee", name := "<init>", desc := "()V" } : Jvm.MethodName)) ∈ lw_all := lw_g (lw_at lw_m1 43 rfl) rfl
theorem q376 : (Jvm.Cond.methodLink "EnclosureRefereeLaw" (125 : Nat) ({ cls := "EnclosureReferee", name := "isOver", desc := "()Z" } : Jvm.MethodName)) ∈ lw_all := lw_g (lw_at lw_m2 70 rfl) rfl
theorem q431 : (Jvm.Cond.methodLink "EnclosureRefereeLaw" (170 : Nat) ({ cls := "EnclosureReferee", name := "levels", desc := "()I" } : Jvm.MethodName)) ∈ lw_all := lw_g (lw_at lw_m2 125 rfl) rfl
theorem q467 : (Jvm.Cond.methodLink "EnclosureRefereeLaw" (187 : Nat) ({ cls := "EnclosureReferee", name := "save", desc := "()I" } : Jvm.MethodName)) ∈ lw_all := lw_g (lw_at lw_m2 161 rfl) rfl
theorem q476 : (Jvm.Cond.methodLink "EnclosureRefereeLaw" (101 : Nat) ({ cls := "EnclosureRefereeLaw", name := "start", desc := "(LEnclosureReferee;III[J)I" } : Jvm.MethodName)) ∈ lw_all := lw_g (lw_at lw_m2 170 rfl) rfl
theorem q477 : (Jvm.Cond.static ({ cls := "EnclosureRefereeLaw", name := "start", desc := "(LEnclosureReferee;III[J)I" } : Jvm.MethodName)) ∈ lw_all := lw_g (lw_at lw_m2 171 rfl) rfl
theorem q478 : (Jvm.Cond.codeWith ({ cls := "EnclosureRefereeLaw", name := "start", desc := "(LEnclosureReferee;III[J)I" } : Jvm.MethodName) method_3_code (6 : Nat) (Option.some Jvm.ClassFile.FieldType.int) [((0 : Nat), (12 : Nat), (15 : Nat), (13 : Nat))]) ∈ lw_all := lw_g (lw_at lw_m2 172 rfl) rfl
theorem q479 : (Jvm.Cond.classLink "EnclosureRefereeLaw" (13 : Nat) "java/lang/IllegalArgumentException") ∈ lw_all := lw_g (lw_at lw_m2 173 rfl) rfl
theorem q480 : (Jvm.Cond.methodLink "EnclosureRefereeLaw" (7 : Nat) ({ cls := "EnclosureReferee", name := "start", desc := "(III)I" } : Jvm.MethodName)) ∈ lw_all := lw_g (lw_at lw_m2 174 rfl) rfl
theorem q576 : (Jvm.Cond.methodLink "EnclosureRefereeLaw" (110 : Nat) ({ cls := "EnclosureRefereeLaw", name := "setRule", desc := "(LEnclosureReferee;I[J)I" } : Jvm.MethodName)) ∈ lw_all := lw_g (lw_at lw_m3 30 rfl) rfl
theorem q577 : (Jvm.Cond.static ({ cls := "EnclosureRefereeLaw", name := "setRule", desc := "(LEnclosureReferee;I[J)I" } : Jvm.MethodName)) ∈ lw_all := lw_g (lw_at lw_m3 31 rfl) rfl
theorem q578 : (Jvm.Cond.codeWith ({ cls := "EnclosureRefereeLaw", name := "setRule", desc := "(LEnclosureReferee;I[J)I" } : Jvm.MethodName) method_4_code (4 : Nat) (Option.some Jvm.ClassFile.FieldType.int) [((0 : Nat), (9 : Nat), (12 : Nat), (13 : Nat))]) ∈ lw_all := lw_g (lw_at lw_m3 32 rfl) rfl
theorem q579 : (Jvm.Cond.methodLink "EnclosureRefereeLaw" (15 : Nat) ({ cls := "EnclosureReferee", name := "setRule", desc := "(I)I" } : Jvm.MethodName)) ∈ lw_all := lw_g (lw_at lw_m3 33 rfl) rfl
theorem q583 : (Jvm.Cond.methodLink "EnclosureRefereeLaw" (114 : Nat) ({ cls := "EnclosureRefereeLaw", name := "setBonus", desc := "(LEnclosureReferee;II[J)I" } : Jvm.MethodName)) ∈ lw_all := lw_g (lw_at lw_m3 37 rfl) rfl
theorem q584 : (Jvm.Cond.static ({ cls := "EnclosureRefereeLaw", name := "setBonus", desc := "(LEnclosureReferee;II[J)I" } : Jvm.MethodName)) ∈ lw_all := lw_g (lw_at lw_m3 38 rfl) rfl
theorem q585 : (Jvm.Cond.codeWith ({ cls := "EnclosureRefereeLaw", name := "setBonus", desc := "(LEnclosureReferee;II[J)I" } : Jvm.MethodName) method_5_code (5 : Nat) (Option.some Jvm.ClassFile.FieldType.int) [((0 : Nat), (10 : Nat), (13 : Nat), (23 : Nat)), ((0 : Nat), (10 : Nat), (17 : Nat), (13 : Nat))]) ∈ lw_all := lw_g (lw_at lw_m3 39 rfl) rfl
theorem q586 : (Jvm.Cond.classLink "EnclosureRefereeLaw" (23 : Nat) "java/lang/IndexOutOfBoundsException") ∈ lw_all := lw_g (lw_at lw_m3 40 rfl) rfl
theorem q618 : (Jvm.Cond.methodLink "EnclosureRefereeLaw" (19 : Nat) ({ cls := "EnclosureReferee", name := "setBonus", desc := "(II)I" } : Jvm.MethodName)) ∈ lw_all := lw_g (lw_at lw_m3 72 rfl) rfl
theorem q643 : (Jvm.Cond.methodLink "EnclosureRefereeLaw" (118 : Nat) ({ cls := "EnclosureRefereeLaw", name := "play", desc := "(LEnclosureReferee;II[J)I" } : Jvm.MethodName)) ∈ lw_all := lw_g (lw_at lw_m3 97 rfl) rfl
theorem q644 : (Jvm.Cond.static ({ cls := "EnclosureRefereeLaw", name := "play", desc := "(LEnclosureReferee;II[J)I" } : Jvm.MethodName)) ∈ lw_all := lw_g (lw_at lw_m3 98 rfl) rfl
theorem q645 : (Jvm.Cond.codeWith ({ cls := "EnclosureRefereeLaw", name := "play", desc := "(LEnclosureReferee;II[J)I" } : Jvm.MethodName) method_6_code (5 : Nat) (Option.some Jvm.ClassFile.FieldType.int) [((0 : Nat), (10 : Nat), (13 : Nat), (23 : Nat)), ((0 : Nat), (10 : Nat), (17 : Nat), (28 : Nat)), ((0 : Nat), (10 : Nat), (21 : Nat), (30 : Nat))]) ∈ lw_all := lw_g (lw_at lw_m3 99 rfl) rfl
theorem q646 : (Jvm.Cond.classLink "EnclosureRefereeLaw" (28 : Nat) "java/lang/IllegalStateException") ∈ lw_all := lw_g (lw_at lw_m3 100 rfl) rfl
theorem q647 : (Jvm.Cond.classLink "EnclosureRefereeLaw" (30 : Nat) "java/lang/UnsupportedOperationException") ∈ lw_all := lw_g (lw_at lw_m3 101 rfl) rfl
theorem q648 : (Jvm.Cond.methodLink "EnclosureRefereeLaw" (25 : Nat) ({ cls := "EnclosureReferee", name := "play", desc := "(II)I" } : Jvm.MethodName)) ∈ lw_all := lw_g (lw_at lw_m3 102 rfl) rfl
theorem q874 : (Jvm.Cond.methodLink "EnclosureRefereeLaw" (121 : Nat) ({ cls := "EnclosureRefereeLaw", name := "undo", desc := "(LEnclosureReferee;[J)I" } : Jvm.MethodName)) ∈ lw_all := lw_g (lw_at lw_m4 88 rfl) rfl
theorem q875 : (Jvm.Cond.static ({ cls := "EnclosureRefereeLaw", name := "undo", desc := "(LEnclosureReferee;[J)I" } : Jvm.MethodName)) ∈ lw_all := lw_g (lw_at lw_m4 89 rfl) rfl
theorem q876 : (Jvm.Cond.codeWith ({ cls := "EnclosureRefereeLaw", name := "undo", desc := "(LEnclosureReferee;[J)I" } : Jvm.MethodName) method_7_code (3 : Nat) (Option.some Jvm.ClassFile.FieldType.int) [((0 : Nat), (8 : Nat), (11 : Nat), (28 : Nat))]) ∈ lw_all := lw_g (lw_at lw_m4 90 rfl) rfl
theorem q877 : (Jvm.Cond.methodLink "EnclosureRefereeLaw" (32 : Nat) ({ cls := "EnclosureReferee", name := "undo", desc := "()I" } : Jvm.MethodName)) ∈ lw_all := lw_g (lw_at lw_m4 91 rfl) rfl
theorem q891 : (Jvm.Cond.methodLink "EnclosureRefereeLaw" (130 : Nat) ({ cls := "EnclosureRefereeLaw", name := "cell", desc := "(LEnclosureReferee;II[J)I" } : Jvm.MethodName)) ∈ lw_all := lw_g (lw_at lw_m4 105 rfl) rfl
theorem q892 : (Jvm.Cond.static ({ cls := "EnclosureRefereeLaw", name := "cell", desc := "(LEnclosureReferee;II[J)I" } : Jvm.MethodName)) ∈ lw_all := lw_g (lw_at lw_m4 106 rfl) rfl
theorem q893 : (Jvm.Cond.codeWith ({ cls := "EnclosureRefereeLaw", name := "cell", desc := "(LEnclosureReferee;II[J)I" } : Jvm.MethodName) method_8_code (5 : Nat) (Option.some Jvm.ClassFile.FieldType.int) [((0 : Nat), (10 : Nat), (13 : Nat), (23 : Nat))]) ∈ lw_all := lw_g (lw_at lw_m4 107 rfl) rfl
theorem q894 : (Jvm.Cond.methodLink "EnclosureRefereeLaw" (36 : Nat) ({ cls := "EnclosureReferee", name := "cell", desc := "(II)I" } : Jvm.MethodName)) ∈ lw_all := lw_g (lw_at lw_m4 108 rfl) rfl
theorem q899 : (Jvm.Cond.methodLink "EnclosureRefereeLaw" (133 : Nat) ({ cls := "EnclosureRefereeLaw", name := "since", desc := "(LEnclosureReferee;II[J)I" } : Jvm.MethodName)) ∈ lw_all := lw_g (lw_at lw_m4 113 rfl) rfl
theorem q900 : (Jvm.Cond.static ({ cls := "EnclosureRefereeLaw", name := "since", desc := "(LEnclosureReferee;II[J)I" } : Jvm.MethodName)) ∈ lw_all := lw_g (lw_at lw_m4 114 rfl) rfl
theorem q901 : (Jvm.Cond.codeWith ({ cls := "EnclosureRefereeLaw", name := "since", desc := "(LEnclosureReferee;II[J)I" } : Jvm.MethodName) method_9_code (5 : Nat) (Option.some Jvm.ClassFile.FieldType.int) [((0 : Nat), (10 : Nat), (13 : Nat), (23 : Nat)), ((0 : Nat), (10 : Nat), (17 : Nat), (13 : Nat))]) ∈ lw_all := lw_g (lw_at lw_m4 115 rfl) rfl
theorem q902 : (Jvm.Cond.methodLink "EnclosureRefereeLaw" (39 : Nat) ({ cls := "EnclosureReferee", name := "since", desc := "(II)I" } : Jvm.MethodName)) ∈ lw_all := lw_g (lw_at lw_m4 116 rfl) rfl
theorem q907 : (Jvm.Cond.methodLink "EnclosureRefereeLaw" (136 : Nat) ({ cls := "EnclosureRefereeLaw", name := "count", desc := "(LEnclosureReferee;I[J)I" } : Jvm.MethodName)) ∈ lw_all := lw_g (lw_at lw_m4 121 rfl) rfl
theorem q908 : (Jvm.Cond.static ({ cls := "EnclosureRefereeLaw", name := "count", desc := "(LEnclosureReferee;I[J)I" } : Jvm.MethodName)) ∈ lw_all := lw_g (lw_at lw_m4 122 rfl) rfl
theorem q909 : (Jvm.Cond.codeWith ({ cls := "EnclosureRefereeLaw", name := "count", desc := "(LEnclosureReferee;I[J)I" } : Jvm.MethodName) method_10_code (4 : Nat) (Option.some Jvm.ClassFile.FieldType.int) [((0 : Nat), (9 : Nat), (12 : Nat), (13 : Nat))]) ∈ lw_all := lw_g (lw_at lw_m4 123 rfl) rfl
theorem q910 : (Jvm.Cond.methodLink "EnclosureRefereeLaw" (42 : Nat) ({ cls := "EnclosureReferee", name := "count", desc := "(I)I" } : Jvm.MethodName)) ∈ lw_all := lw_g (lw_at lw_m4 124 rfl) rfl
theorem q928 : (Jvm.Cond.methodLink "EnclosureRefereeLaw" (139 : Nat) ({ cls := "EnclosureRefereeLaw", name := "player", desc := "(LEnclosureReferee;II[J)I" } : Jvm.MethodName)) ∈ lw_all := lw_g (lw_at lw_m4 142 rfl) rfl
theorem q929 : (Jvm.Cond.static ({ cls := "EnclosureRefereeLaw", name := "player", desc := "(LEnclosureReferee;II[J)I" } : Jvm.MethodName)) ∈ lw_all := lw_g (lw_at lw_m4 143 rfl) rfl
theorem q930 : (Jvm.Cond.codeWith ({ cls := "EnclosureRefereeLaw", name := "player", desc := "(LEnclosureReferee;II[J)I" } : Jvm.MethodName) method_11_code (5 : Nat) (Option.some Jvm.ClassFile.FieldType.int) [((0 : Nat), (10 : Nat), (13 : Nat), (23 : Nat)), ((0 : Nat), (10 : Nat), (17 : Nat), (13 : Nat))]) ∈ lw_all := lw_g (lw_at lw_m4 144 rfl) rfl
theorem q931 : (Jvm.Cond.methodLink "EnclosureRefereeLaw" (45 : Nat) ({ cls := "EnclosureReferee", name := "player", desc := "(II)I" } : Jvm.MethodName)) ∈ lw_all := lw_g (lw_at lw_m4 145 rfl) rfl
theorem q955 : (Jvm.Cond.methodLink "EnclosureRefereeLaw" (142 : Nat) ({ cls := "EnclosureRefereeLaw", name := "region", desc := "(LEnclosureReferee;II[J)I" } : Jvm.MethodName)) ∈ lw_all := lw_g (lw_at lw_m4 169 rfl) rfl
theorem q956 : (Jvm.Cond.static ({ cls := "EnclosureRefereeLaw", name := "region", desc := "(LEnclosureReferee;II[J)I" } : Jvm.MethodName)) ∈ lw_all := lw_g (lw_at lw_m4 170 rfl) rfl
theorem q957 : (Jvm.Cond.codeWith ({ cls := "EnclosureRefereeLaw", name := "region", desc := "(LEnclosureReferee;II[J)I" } : Jvm.MethodName) method_12_code (5 : Nat) (Option.some Jvm.ClassFile.FieldType.int) [((0 : Nat), (9 : Nat), (12 : Nat), (23 : Nat)), ((0 : Nat), (9 : Nat), (16 : Nat), (52 : Nat))]) ∈ lw_all := lw_g (lw_at lw_m4 171 rfl) rfl
theorem q958 : (Jvm.Cond.classLink "EnclosureRefereeLaw" (52 : Nat) "java/util/NoSuchElementException") ∈ lw_all := lw_g (lw_at lw_m4 172 rfl) rfl
theorem q959 : (Jvm.Cond.methodLink "EnclosureRefereeLaw" (48 : Nat) ({ cls := "EnclosureReferee", name := "region", desc := "(II)J" } : Jvm.MethodName)) ∈ lw_all := lw_g (lw_at lw_m4 173 rfl) rfl
theorem q982 : (Jvm.Cond.methodLink "EnclosureRefereeLaw" (145 : Nat) ({ cls := "EnclosureRefereeLaw", name := "cells", desc := "(LEnclosureReferee;I[J)I" } : Jvm.MethodName)) ∈ lw_all := lw_g (lw_at lw_m4 196 rfl) rfl
theorem q983 : (Jvm.Cond.static ({ cls := "EnclosureRefereeLaw", name := "cells", desc := "(LEnclosureReferee;I[J)I" } : Jvm.MethodName)) ∈ lw_all := lw_g (lw_at lw_m4 197 rfl) rfl
theorem q984 : (Jvm.Cond.codeWith ({ cls := "EnclosureRefereeLaw", name := "cells", desc := "(LEnclosureReferee;I[J)I" } : Jvm.MethodName) method_13_code (4 : Nat) (Option.some Jvm.ClassFile.FieldType.int) [((0 : Nat), (8 : Nat), (11 : Nat), (13 : Nat))]) ∈ lw_all := lw_g (lw_at lw_m4 198 rfl) rfl
theorem q985 : (Jvm.Cond.methodLink "EnclosureRefereeLaw" (54 : Nat) ({ cls := "EnclosureReferee", name := "cells", desc := "(I)J" } : Jvm.MethodName)) ∈ lw_all := lw_g (lw_at lw_m4 199 rfl) rfl
theorem q990 : (Jvm.Cond.methodLink "EnclosureRefereeLaw" (148 : Nat) ({ cls := "EnclosureRefereeLaw", name := "chain", desc := "(LEnclosureReferee;I[J)I" } : Jvm.MethodName)) ∈ lw_all := lw_g (lw_at lw_m4 204 rfl) rfl
theorem q991 : (Jvm.Cond.static ({ cls := "EnclosureRefereeLaw", name := "chain", desc := "(LEnclosureReferee;I[J)I" } : Jvm.MethodName)) ∈ lw_all := lw_g (lw_at lw_m4 205 rfl) rfl
theorem q992 : (Jvm.Cond.codeWith ({ cls := "EnclosureRefereeLaw", name := "chain", desc := "(LEnclosureReferee;I[J)I" } : Jvm.MethodName) method_14_code (4 : Nat) (Option.some Jvm.ClassFile.FieldType.int) [((0 : Nat), (8 : Nat), (11 : Nat), (23 : Nat)), ((0 : Nat), (8 : Nat), (14 : Nat), (52 : Nat))]) ∈ lw_all := lw_g (lw_at lw_m4 206 rfl) rfl
theorem q993 : (Jvm.Cond.methodLink "EnclosureRefereeLaw" (58 : Nat) ({ cls := "EnclosureReferee", name := "chain", desc := "(I)J" } : Jvm.MethodName)) ∈ lw_all := lw_g (lw_at lw_m4 207 rfl) rfl
theorem q997 : (Jvm.Cond.methodLink "EnclosureRefereeLaw" (151 : Nat) ({ cls := "EnclosureRefereeLaw", name := "stonesToEnclose", desc := "(LEnclosureReferee;II[J)I" } : Jvm.MethodName)) ∈ lw_all := lw_g (lw_at lw_m4 211 rfl) rfl
theorem q998 : (Jvm.Cond.static ({ cls := "EnclosureRefereeLaw", name := "stonesToEnclose", desc := "(LEnclosureReferee;II[J)I" } : Jvm.MethodName)) ∈ lw_all := lw_g (lw_at lw_m4 212 rfl) rfl
theorem q999 : (Jvm.Cond.codeWith ({ cls := "EnclosureRefereeLaw", name := "stonesToEnclose", desc := "(LEnclosureReferee;II[J)I" } : Jvm.MethodName) method_15_code (5 : Nat) (Option.some Jvm.ClassFile.FieldType.int) [((0 : Nat), (10 : Nat), (13 : Nat), (23 : Nat)), ((0 : Nat), (10 : Nat), (17 : Nat), (52 : Nat))]) ∈ lw_all := lw_g (lw_at lw_m4 213 rfl) rfl
theorem q1000 : (Jvm.Cond.methodLink "EnclosureRefereeLaw" (61 : Nat) ({ cls := "EnclosureReferee", name := "stonesToEnclose", desc := "(II)I" } : Jvm.MethodName)) ∈ lw_all := lw_g (lw_at lw_m4 214 rfl) rfl
theorem q1019 : (Jvm.Cond.methodLink "EnclosureRefereeLaw" (154 : Nat) ({ cls := "EnclosureRefereeLaw", name := "share", desc := "(LEnclosureReferee;I[D)I" } : Jvm.MethodName)) ∈ lw_all := lw_g (lw_at lw_m4 233 rfl) rfl
theorem q1020 : (Jvm.Cond.static ({ cls := "EnclosureRefereeLaw", name := "share", desc := "(LEnclosureReferee;I[D)I" } : Jvm.MethodName)) ∈ lw_all := lw_g (lw_at lw_m4 234 rfl) rfl
theorem q1021 : (Jvm.Cond.codeWith ({ cls := "EnclosureRefereeLaw", name := "share", desc := "(LEnclosureReferee;I[D)I" } : Jvm.MethodName) method_16_code (4 : Nat) (Option.some Jvm.ClassFile.FieldType.int) [((0 : Nat), (8 : Nat), (11 : Nat), (23 : Nat))]) ∈ lw_all := lw_g (lw_at lw_m4 235 rfl) rfl
theorem q1022 : (Jvm.Cond.methodLink "EnclosureRefereeLaw" (64 : Nat) ({ cls := "EnclosureReferee", name := "share", desc := "(I)D" } : Jvm.MethodName)) ∈ lw_all := lw_g (lw_at lw_m4 236 rfl) rfl
theorem q1027 : (Jvm.Cond.methodLink "EnclosureRefereeLaw" (158 : Nat) ({ cls := "EnclosureRefereeLaw", name := "round", desc := "(LEnclosureReferee;II[J)I" } : Jvm.MethodName)) ∈ lw_all := lw_g (lw_at lw_m5 1 rfl) rfl
theorem q1028 : (Jvm.Cond.static ({ cls := "EnclosureRefereeLaw", name := "round", desc := "(LEnclosureReferee;II[J)I" } : Jvm.MethodName)) ∈ lw_all := lw_g (lw_at lw_m5 2 rfl) rfl
theorem q1029 : (Jvm.Cond.codeWith ({ cls := "EnclosureRefereeLaw", name := "round", desc := "(LEnclosureReferee;II[J)I" } : Jvm.MethodName) method_17_code (5 : Nat) (Option.some Jvm.ClassFile.FieldType.int) [((0 : Nat), (10 : Nat), (13 : Nat), (23 : Nat)), ((0 : Nat), (10 : Nat), (17 : Nat), (13 : Nat))]) ∈ lw_all := lw_g (lw_at lw_m5 3 rfl) rfl
theorem q1030 : (Jvm.Cond.methodLink "EnclosureRefereeLaw" (68 : Nat) ({ cls := "EnclosureReferee", name := "round", desc := "(II)I" } : Jvm.MethodName)) ∈ lw_all := lw_g (lw_at lw_m5 4 rfl) rfl
theorem q1034 : (Jvm.Cond.methodLink "EnclosureRefereeLaw" (161 : Nat) ({ cls := "EnclosureRefereeLaw", name := "turningPoint", desc := "(LEnclosureReferee;[J)I" } : Jvm.MethodName)) ∈ lw_all := lw_g (lw_at lw_m5 8 rfl) rfl
theorem q1035 : (Jvm.Cond.static ({ cls := "EnclosureRefereeLaw", name := "turningPoint", desc := "(LEnclosureReferee;[J)I" } : Jvm.MethodName)) ∈ lw_all := lw_g (lw_at lw_m5 9 rfl) rfl
theorem q1036 : (Jvm.Cond.codeWith ({ cls := "EnclosureRefereeLaw", name := "turningPoint", desc := "(LEnclosureReferee;[J)I" } : Jvm.MethodName) method_18_code (3 : Nat) (Option.some Jvm.ClassFile.FieldType.int) [((0 : Nat), (8 : Nat), (11 : Nat), (52 : Nat))]) ∈ lw_all := lw_g (lw_at lw_m5 10 rfl) rfl
theorem q1037 : (Jvm.Cond.methodLink "EnclosureRefereeLaw" (71 : Nat) ({ cls := "EnclosureReferee", name := "turningPoint", desc := "()I" } : Jvm.MethodName)) ∈ lw_all := lw_g (lw_at lw_m5 11 rfl) rfl
theorem q1048 : (Jvm.Cond.methodLink "EnclosureRefereeLaw" (164 : Nat) ({ cls := "EnclosureRefereeLaw", name := "guarantee", desc := "(LEnclosureReferee;III[J)I" } : Jvm.MethodName)) ∈ lw_all := lw_g (lw_at lw_m5 22 rfl) rfl
theorem q1049 : (Jvm.Cond.static ({ cls := "EnclosureRefereeLaw", name := "guarantee", desc := "(LEnclosureReferee;III[J)I" } : Jvm.MethodName)) ∈ lw_all := lw_g (lw_at lw_m5 23 rfl) rfl
theorem q1050 : (Jvm.Cond.codeWith ({ cls := "EnclosureRefereeLaw", name := "guarantee", desc := "(LEnclosureReferee;III[J)I" } : Jvm.MethodName) method_19_code (6 : Nat) (Option.some Jvm.ClassFile.FieldType.int) [((0 : Nat), (12 : Nat), (15 : Nat), (23 : Nat)), ((0 : Nat), (12 : Nat), (19 : Nat), (13 : Nat)), ((0 : Nat), (12 : Nat), (23 : Nat), (28 : Nat))]) ∈ lw_all := lw_g (lw_at lw_m5 24 rfl) rfl
theorem q1051 : (Jvm.Cond.methodLink "EnclosureRefereeLaw" (74 : Nat) ({ cls := "EnclosureReferee", name := "guarantee", desc := "(III)I" } : Jvm.MethodName)) ∈ lw_all := lw_g (lw_at lw_m5 25 rfl) rfl
theorem q1084 : (Jvm.Cond.methodLink "EnclosureRefereeLaw" (167 : Nat) ({ cls := "EnclosureRefereeLaw", name := "best", desc := "(LEnclosureReferee;II[J)I" } : Jvm.MethodName)) ∈ lw_all := lw_g (lw_at lw_m5 58 rfl) rfl
theorem q1085 : (Jvm.Cond.static ({ cls := "EnclosureRefereeLaw", name := "best", desc := "(LEnclosureReferee;II[J)I" } : Jvm.MethodName)) ∈ lw_all := lw_g (lw_at lw_m5 59 rfl) rfl
theorem q1086 : (Jvm.Cond.codeWith ({ cls := "EnclosureRefereeLaw", name := "best", desc := "(LEnclosureReferee;II[J)I" } : Jvm.MethodName) method_20_code (5 : Nat) (Option.some Jvm.ClassFile.FieldType.int) [((0 : Nat), (10 : Nat), (13 : Nat), (23 : Nat)), ((0 : Nat), (10 : Nat), (17 : Nat), (13 : Nat)), ((0 : Nat), (10 : Nat), (21 : Nat), (28 : Nat))]) ∈ lw_all := lw_g (lw_at lw_m5 60 rfl) rfl
theorem q1087 : (Jvm.Cond.methodLink "EnclosureRefereeLaw" (77 : Nat) ({ cls := "EnclosureReferee", name := "best", desc := "(II)I" } : Jvm.MethodName)) ∈ lw_all := lw_g (lw_at lw_m5 61 rfl) rfl
theorem q1096 : (Jvm.Cond.methodLink "EnclosureRefereeLaw" (174 : Nat) ({ cls := "EnclosureRefereeLaw", name := "report", desc := "(LEnclosureReferee;II[J)I" } : Jvm.MethodName)) ∈ lw_all := lw_g (lw_at lw_m5 70 rfl) rfl
theorem q1097 : (Jvm.Cond.static ({ cls := "EnclosureRefereeLaw", name := "report", desc := "(LEnclosureReferee;II[J)I" } : Jvm.MethodName)) ∈ lw_all := lw_g (lw_at lw_m5 71 rfl) rfl
theorem q1098 : (Jvm.Cond.codeWith ({ cls := "EnclosureRefereeLaw", name := "report", desc := "(LEnclosureReferee;II[J)I" } : Jvm.MethodName) method_21_code (5 : Nat) (Option.some Jvm.ClassFile.FieldType.int) [((0 : Nat), (10 : Nat), (13 : Nat), (52 : Nat)), ((0 : Nat), (10 : Nat), (17 : Nat), (13 : Nat))]) ∈ lw_all := lw_g (lw_at lw_m5 72 rfl) rfl
theorem q1099 : (Jvm.Cond.methodLink "EnclosureRefereeLaw" (80 : Nat) ({ cls := "EnclosureReferee", name := "report", desc := "(II)I" } : Jvm.MethodName)) ∈ lw_all := lw_g (lw_at lw_m5 73 rfl) rfl
theorem q1113 : (Jvm.Cond.methodLink "EnclosureRefereeLaw" (177 : Nat) ({ cls := "EnclosureRefereeLaw", name := "feed", desc := "(LEnclosureReferee;C[J)I" } : Jvm.MethodName)) ∈ lw_all := lw_g (lw_at lw_m5 87 rfl) rfl
theorem q1114 : (Jvm.Cond.static ({ cls := "EnclosureRefereeLaw", name := "feed", desc := "(LEnclosureReferee;C[J)I" } : Jvm.MethodName)) ∈ lw_all := lw_g (lw_at lw_m5 88 rfl) rfl
theorem q1115 : (Jvm.Cond.codeWith ({ cls := "EnclosureRefereeLaw", name := "feed", desc := "(LEnclosureReferee;C[J)I" } : Jvm.MethodName) method_22_code (4 : Nat) (Option.some Jvm.ClassFile.FieldType.int) [((0 : Nat), (9 : Nat), (12 : Nat), (28 : Nat))]) ∈ lw_all := lw_g (lw_at lw_m5 89 rfl) rfl
theorem q1116 : (Jvm.Cond.methodLink "EnclosureRefereeLaw" (83 : Nat) ({ cls := "EnclosureReferee", name := "feed", desc := "(C)I" } : Jvm.MethodName)) ∈ lw_all := lw_g (lw_at lw_m5 90 rfl) rfl
theorem q1120 : (Jvm.Cond.methodLink "EnclosureRefereeLaw" (181 : Nat) ({ cls := "EnclosureRefereeLaw", name := "readRecord", desc := "(LEnclosureReferee;[J)I" } : Jvm.MethodName)) ∈ lw_all := lw_g (lw_at lw_m5 94 rfl) rfl
theorem q1121 : (Jvm.Cond.static ({ cls := "EnclosureRefereeLaw", name := "readRecord", desc := "(LEnclosureReferee;[J)I" } : Jvm.MethodName)) ∈ lw_all := lw_g (lw_at lw_m5 95 rfl) rfl
theorem q1122 : (Jvm.Cond.codeWith ({ cls := "EnclosureRefereeLaw", name := "readRecord", desc := "(LEnclosureReferee;[J)I" } : Jvm.MethodName) method_23_code (3 : Nat) (Option.some Jvm.ClassFile.FieldType.int) [((0 : Nat), (8 : Nat), (11 : Nat), (30 : Nat))]) ∈ lw_all := lw_g (lw_at lw_m5 96 rfl) rfl
theorem q1123 : (Jvm.Cond.methodLink "EnclosureRefereeLaw" (87 : Nat) ({ cls := "EnclosureReferee", name := "readRecord", desc := "()I" } : Jvm.MethodName)) ∈ lw_all := lw_g (lw_at lw_m5 97 rfl) rfl
theorem q1219 : (Jvm.Cond.methodLink "EnclosureRefereeLaw" (184 : Nat) ({ cls := "EnclosureRefereeLaw", name := "written", desc := "(LEnclosureReferee;I[J)I" } : Jvm.MethodName)) ∈ lw_all := lw_g (lw_at lw_m5 193 rfl) rfl
theorem q1220 : (Jvm.Cond.static ({ cls := "EnclosureRefereeLaw", name := "written", desc := "(LEnclosureReferee;I[J)I" } : Jvm.MethodName)) ∈ lw_all := lw_g (lw_at lw_m5 194 rfl) rfl
theorem q1221 : (Jvm.Cond.codeWith ({ cls := "EnclosureRefereeLaw", name := "written", desc := "(LEnclosureReferee;I[J)I" } : Jvm.MethodName) method_24_code (4 : Nat) (Option.some Jvm.ClassFile.FieldType.int) [((0 : Nat), (9 : Nat), (12 : Nat), (23 : Nat))]) ∈ lw_all := lw_g (lw_at lw_m5 195 rfl) rfl
theorem q1222 : (Jvm.Cond.methodLink "EnclosureRefereeLaw" (90 : Nat) ({ cls := "EnclosureReferee", name := "written", desc := "(I)C" } : Jvm.MethodName)) ∈ lw_all := lw_g (lw_at lw_m5 196 rfl) rfl
theorem q1495 : (Jvm.Cond.methodLink "EnclosureRefereeLaw" (191 : Nat) ({ cls := "EnclosureRefereeLaw", name := "restore", desc := "(LEnclosureReferee;[J)I" } : Jvm.MethodName)) ∈ lw_all := lw_g (lw_at lw_m6 229 rfl) rfl
theorem q1496 : (Jvm.Cond.static ({ cls := "EnclosureRefereeLaw", name := "restore", desc := "(LEnclosureReferee;[J)I" } : Jvm.MethodName)) ∈ lw_all := lw_g (lw_at lw_m6 230 rfl) rfl
theorem q1497 : (Jvm.Cond.codeWith ({ cls := "EnclosureRefereeLaw", name := "restore", desc := "(LEnclosureReferee;[J)I" } : Jvm.MethodName) method_25_code (3 : Nat) (Option.some Jvm.ClassFile.FieldType.int) [((0 : Nat), (8 : Nat), (11 : Nat), (28 : Nat))]) ∈ lw_all := lw_g (lw_at lw_m6 231 rfl) rfl
theorem q1498 : (Jvm.Cond.methodLink "EnclosureRefereeLaw" (94 : Nat) ({ cls := "EnclosureReferee", name := "restore", desc := "()I" } : Jvm.MethodName)) ∈ lw_all := lw_g (lw_at lw_m6 232 rfl) rfl
theorem q1502 : (Jvm.Cond.classLink "EnclosureRefereeLaw" (98 : Nat) "EnclosureRefereeModel") ∈ lw_all := lw_g (lw_at lw_m6 236 rfl) rfl
theorem q1504 : (Jvm.Cond.methodLink "EnclosureRefereeLaw" (100 : Nat) ({ cls := "EnclosureRefereeModel", name := "<init>", desc := "()V" } : Jvm.MethodName)) ∈ lw_all := lw_g (lw_at lw_m6 238 rfl) rfl
theorem q1612 : (Jvm.Cond.methodLink "EnclosureRefereeLaw" (107 : Nat) ({ cls := "EnclosureRefereeModel", name := "thrown", desc := "()I" } : Jvm.MethodName)) ∈ lw_all := lw_g (lw_at lw_m7 106 rfl) rfl
theorem q1616 : (Jvm.Cond.methodLink "EnclosureRefereeLaw" (106 : Nat) ({ cls := "EnclosureRefereeModel", name := "start", desc := "(III)I" } : Jvm.MethodName)) ∈ lw_all := lw_g (lw_at lw_m7 110 rfl) rfl
theorem q1631 : (Jvm.Cond.methodLink "EnclosureRefereeLaw" (113 : Nat) ({ cls := "EnclosureRefereeModel", name := "setRule", desc := "(I)I" } : Jvm.MethodName)) ∈ lw_all := lw_g (lw_at lw_m7 125 rfl) rfl
theorem q1635 : (Jvm.Cond.methodLink "EnclosureRefereeLaw" (117 : Nat) ({ cls := "EnclosureRefereeModel", name := "setBonus", desc := "(II)I" } : Jvm.MethodName)) ∈ lw_all := lw_g (lw_at lw_m7 129 rfl) rfl
theorem q1639 : (Jvm.Cond.methodLink "EnclosureRefereeLaw" (120 : Nat) ({ cls := "EnclosureRefereeModel", name := "play", desc := "(II)I" } : Jvm.MethodName)) ∈ lw_all := lw_g (lw_at lw_m7 133 rfl) rfl
theorem q1730 : (Jvm.Cond.methodLink "EnclosureRefereeLaw" (124 : Nat) ({ cls := "EnclosureRefereeModel", name := "undo", desc := "()I" } : Jvm.MethodName)) ∈ lw_all := lw_g (lw_at lw_m7 224 rfl) rfl
theorem q1734 : (Jvm.Cond.methodLink "EnclosureRefereeLaw" (129 : Nat) ({ cls := "EnclosureRefereeModel", name := "isOver", desc := "()Z" } : Jvm.MethodName)) ∈ lw_all := lw_g (lw_at lw_m7 228 rfl) rfl
theorem q1738 : (Jvm.Cond.methodLink "EnclosureRefereeLaw" (132 : Nat) ({ cls := "EnclosureRefereeModel", name := "cell", desc := "(II)I" } : Jvm.MethodName)) ∈ lw_all := lw_g (lw_at lw_m7 232 rfl) rfl
theorem q1742 : (Jvm.Cond.methodLink "EnclosureRefereeLaw" (135 : Nat) ({ cls := "EnclosureRefereeModel", name := "since", desc := "(II)I" } : Jvm.MethodName)) ∈ lw_all := lw_g (lw_at lw_m7 236 rfl) rfl
theorem q1746 : (Jvm.Cond.methodLink "EnclosureRefereeLaw" (138 : Nat) ({ cls := "EnclosureRefereeModel", name := "count", desc := "(I)I" } : Jvm.MethodName)) ∈ lw_all := lw_g (lw_at lw_m8 0 rfl) rfl
theorem q1750 : (Jvm.Cond.methodLink "EnclosureRefereeLaw" (141 : Nat) ({ cls := "EnclosureRefereeModel", name := "player", desc := "(II)I" } : Jvm.MethodName)) ∈ lw_all := lw_g (lw_at lw_m8 4 rfl) rfl
theorem q1758 : (Jvm.Cond.methodLink "EnclosureRefereeLaw" (144 : Nat) ({ cls := "EnclosureRefereeModel", name := "region", desc := "(II)J" } : Jvm.MethodName)) ∈ lw_all := lw_g (lw_at lw_m8 12 rfl) rfl
theorem q1766 : (Jvm.Cond.methodLink "EnclosureRefereeLaw" (147 : Nat) ({ cls := "EnclosureRefereeModel", name := "cells", desc := "(I)J" } : Jvm.MethodName)) ∈ lw_all := lw_g (lw_at lw_m8 20 rfl) rfl
theorem q1770 : (Jvm.Cond.methodLink "EnclosureRefereeLaw" (150 : Nat) ({ cls := "EnclosureRefereeModel", name := "chain", desc := "(I)J" } : Jvm.MethodName)) ∈ lw_all := lw_g (lw_at lw_m8 24 rfl) rfl
theorem q1774 : (Jvm.Cond.methodLink "EnclosureRefereeLaw" (153 : Nat) ({ cls := "EnclosureRefereeModel", name := "stonesToEnclose", desc := "(II)I" } : Jvm.MethodName)) ∈ lw_all := lw_g (lw_at lw_m8 28 rfl) rfl
theorem q1782 : (Jvm.Cond.methodLink "EnclosureRefereeLaw" (157 : Nat) ({ cls := "EnclosureRefereeModel", name := "share", desc := "(I)D" } : Jvm.MethodName)) ∈ lw_all := lw_g (lw_at lw_m8 36 rfl) rfl
theorem q1786 : (Jvm.Cond.methodLink "EnclosureRefereeLaw" (160 : Nat) ({ cls := "EnclosureRefereeModel", name := "round", desc := "(II)I" } : Jvm.MethodName)) ∈ lw_all := lw_g (lw_at lw_m8 40 rfl) rfl
theorem q1790 : (Jvm.Cond.methodLink "EnclosureRefereeLaw" (163 : Nat) ({ cls := "EnclosureRefereeModel", name := "turningPoint", desc := "()I" } : Jvm.MethodName)) ∈ lw_all := lw_g (lw_at lw_m8 44 rfl) rfl
theorem q1794 : (Jvm.Cond.methodLink "EnclosureRefereeLaw" (166 : Nat) ({ cls := "EnclosureRefereeModel", name := "guarantee", desc := "(III)I" } : Jvm.MethodName)) ∈ lw_all := lw_g (lw_at lw_m8 48 rfl) rfl
theorem q1827 : (Jvm.Cond.methodLink "EnclosureRefereeLaw" (169 : Nat) ({ cls := "EnclosureRefereeModel", name := "best", desc := "(II)I" } : Jvm.MethodName)) ∈ lw_all := lw_g (lw_at lw_m8 81 rfl) rfl
theorem q1831 : (Jvm.Cond.methodLink "EnclosureRefereeLaw" (173 : Nat) ({ cls := "EnclosureRefereeModel", name := "levels", desc := "()I" } : Jvm.MethodName)) ∈ lw_all := lw_g (lw_at lw_m8 85 rfl) rfl
theorem q1835 : (Jvm.Cond.methodLink "EnclosureRefereeLaw" (176 : Nat) ({ cls := "EnclosureRefereeModel", name := "report", desc := "(II)I" } : Jvm.MethodName)) ∈ lw_all := lw_g (lw_at lw_m8 89 rfl) rfl
theorem q1839 : (Jvm.Cond.methodLink "EnclosureRefereeLaw" (180 : Nat) ({ cls := "EnclosureRefereeModel", name := "feed", desc := "(C)I" } : Jvm.MethodName)) ∈ lw_all := lw_g (lw_at lw_m8 93 rfl) rfl
theorem q1843 : (Jvm.Cond.methodLink "EnclosureRefereeLaw" (183 : Nat) ({ cls := "EnclosureRefereeModel", name := "readRecord", desc := "()I" } : Jvm.MethodName)) ∈ lw_all := lw_g (lw_at lw_m8 97 rfl) rfl
theorem q1859 : (Jvm.Cond.methodLink "EnclosureRefereeLaw" (186 : Nat) ({ cls := "EnclosureRefereeModel", name := "written", desc := "(I)C" } : Jvm.MethodName)) ∈ lw_all := lw_g (lw_at lw_m8 113 rfl) rfl
theorem q1870 : (Jvm.Cond.methodLink "EnclosureRefereeLaw" (190 : Nat) ({ cls := "EnclosureRefereeModel", name := "save", desc := "()I" } : Jvm.MethodName)) ∈ lw_all := lw_g (lw_at lw_m8 124 rfl) rfl
theorem q1874 : (Jvm.Cond.methodLink "EnclosureRefereeLaw" (193 : Nat) ({ cls := "EnclosureRefereeModel", name := "restore", desc := "()I" } : Jvm.MethodName)) ∈ lw_all := lw_g (lw_at lw_m8 128 rfl) rfl
/-! the law's own entry -/
set_option maxRecDepth 100000
abbrev cL_law : ByteArray := code
def dkwL_law_65 : List UInt8 := [21, 7, 133, 148, 153, 0, 5, 3, 172, 167, 0, 3, 132, 5, 4, 167, 249, 186, 4, 172]
abbrev dktL_law_65 : List UInt8 := dkwL_law_65 ++ []
def dkwL_law_64 : List UInt8 := [182, 0, 193, 54, 7, 44, 182, 0, 107, 21, 6, 159, 0, 5, 3, 172, 21, 6, 154, 0, 15, 45, 3, 47]
abbrev dktL_law_64 : List UInt8 := dkwL_law_64 ++ dktL_law_65
def dkwL_law_63 : List UInt8 := [167, 0, 60, 43, 182, 0, 187, 44, 182, 0, 190, 159, 0, 49, 3, 172, 43, 45, 184, 0, 191, 54, 6, 44]
abbrev dktL_law_63 : List UInt8 := dkwL_law_63 ++ dktL_law_64
def dkwL_law_62 : List UInt8 := [21, 6, 159, 0, 5, 3, 172, 21, 6, 154, 0, 15, 45, 3, 47, 21, 7, 133, 148, 153, 0, 5, 3, 172]
abbrev dktL_law_62 : List UInt8 := dkwL_law_62 ++ dktL_law_63
def dkwL_law_61 : List UInt8 := [46, 45, 184, 0, 184, 54, 6, 44, 42, 21, 5, 4, 96, 46, 182, 0, 186, 54, 7, 44, 182, 0, 107]
abbrev dktL_law_61 : List UInt8 := dkwL_law_61 ++ dktL_law_62
def dkwL_law_60 : List UInt8 := [154, 0, 15, 45, 3, 47, 21, 7, 133, 148, 153, 0, 5, 3, 172, 167, 0, 116, 43, 42, 21, 5, 4, 96]
abbrev dktL_law_60 : List UInt8 := dkwL_law_60 ++ dktL_law_61
def dkwL_law_59 : List UInt8 := [184, 0, 181, 54, 6, 44, 182, 0, 183, 54, 7, 44, 182, 0, 107, 21, 6, 159, 0, 5, 3, 172, 21, 6]
abbrev dktL_law_59 : List UInt8 := dkwL_law_59 ++ dktL_law_60
def dkwL_law_58 : List UInt8 := [3, 172, 21, 6, 154, 0, 15, 45, 3, 47, 21, 7, 133, 148, 153, 0, 5, 3, 172, 167, 0, 160, 43, 45]
abbrev dktL_law_58 : List UInt8 := dkwL_law_58 ++ dktL_law_59
def dkwL_law_57 : List UInt8 := [54, 6, 44, 42, 21, 5, 4, 96, 46, 146, 182, 0, 180, 54, 7, 44, 182, 0, 107, 21, 6, 159, 0, 5]
abbrev dktL_law_57 : List UInt8 := dkwL_law_57 ++ dktL_law_58
def dkwL_law_56 : List UInt8 := [21, 7, 133, 148, 153, 0, 5, 3, 172, 167, 0, 218, 43, 42, 21, 5, 4, 96, 46, 146, 45, 184, 0, 177]
abbrev dktL_law_56 : List UInt8 := dkwL_law_56 ++ dktL_law_57
def dkwL_law_55 : List UInt8 := [182, 0, 176, 54, 7, 44, 182, 0, 107, 21, 6, 159, 0, 5, 3, 172, 21, 6, 154, 0, 15, 45, 3, 47]
abbrev dktL_law_55 : List UInt8 := dkwL_law_55 ++ dktL_law_56
def dkwL_law_54 : List UInt8 := [21, 5, 5, 96, 46, 45, 184, 0, 174, 54, 6, 44, 42, 21, 5, 4, 96, 46, 42, 21, 5, 5, 96, 46]
abbrev dktL_law_54 : List UInt8 := dkwL_law_54 ++ dktL_law_55
def dkwL_law_53 : List UInt8 := [167, 1, 43, 43, 182, 0, 170, 44, 182, 0, 173, 159, 1, 32, 3, 172, 43, 42, 21, 5, 4, 96, 46, 42]
abbrev dktL_law_53 : List UInt8 := dkwL_law_53 ++ dktL_law_54
def dkwL_law_52 : List UInt8 := [159, 0, 5, 3, 172, 21, 6, 154, 0, 15, 45, 3, 47, 21, 7, 133, 148, 153, 0, 5, 3, 172]
abbrev dktL_law_52 : List UInt8 := dkwL_law_52 ++ dktL_law_53
def dkwL_law_51 : List UInt8 := [21, 5, 4, 96, 46, 42, 21, 5, 5, 96, 46, 182, 0, 169, 54, 7, 44, 182, 0, 107, 21, 6]
abbrev dktL_law_51 : List UInt8 := dkwL_law_51 ++ dktL_law_52
def dkwL_law_50 : List UInt8 := [167, 1, 111, 43, 42, 21, 5, 4, 96, 46, 42, 21, 5, 5, 96, 46, 45, 184, 0, 167, 54, 6, 44, 42]
abbrev dktL_law_50 : List UInt8 := dkwL_law_50 ++ dktL_law_51
def dkwL_law_49 : List UInt8 := [159, 0, 5, 3, 172, 21, 6, 154, 0, 15, 45, 3, 47, 21, 7, 133, 148, 153, 0, 5, 3, 172]
abbrev dktL_law_49 : List UInt8 := dkwL_law_49 ++ dktL_law_50
def dkwL_law_48 : List UInt8 := [42, 21, 5, 5, 96, 46, 42, 21, 5, 6, 96, 46, 182, 0, 166, 54, 7, 44, 182, 0, 107, 21, 6]
abbrev dktL_law_48 : List UInt8 := dkwL_law_48 ++ dktL_law_49
def dkwL_law_47 : List UInt8 := [21, 5, 5, 96, 46, 42, 21, 5, 6, 96, 46, 45, 184, 0, 164, 54, 6, 44, 42, 21, 5, 4, 96, 46]
abbrev dktL_law_47 : List UInt8 := dkwL_law_47 ++ dktL_law_48
def dkwL_law_46 : List UInt8 := [45, 3, 47, 21, 7, 133, 148, 153, 0, 5, 3, 172, 167, 1, 191, 43, 42, 21, 5, 4, 96, 46, 42]
abbrev dktL_law_46 : List UInt8 := dkwL_law_46 ++ dktL_law_47
def dkwL_law_45 : List UInt8 := [54, 6, 44, 182, 0, 163, 54, 7, 44, 182, 0, 107, 21, 6, 159, 0, 5, 3, 172, 21, 6, 154, 0, 15]
abbrev dktL_law_45 : List UInt8 := dkwL_law_45 ++ dktL_law_46
def dkwL_law_44 : List UInt8 := [154, 0, 15, 45, 3, 47, 21, 7, 133, 148, 153, 0, 5, 3, 172, 167, 1, 235, 43, 45, 184, 0, 161]
abbrev dktL_law_44 : List UInt8 := dkwL_law_44 ++ dktL_law_45
def dkwL_law_43 : List UInt8 := [42, 21, 5, 5, 96, 46, 182, 0, 160, 54, 7, 44, 182, 0, 107, 21, 6, 159, 0, 5, 3, 172, 21, 6]
abbrev dktL_law_43 : List UInt8 := dkwL_law_43 ++ dktL_law_44
def dkwL_law_42 : List UInt8 := [21, 5, 4, 96, 46, 42, 21, 5, 5, 96, 46, 45, 184, 0, 158, 54, 6, 44, 42, 21, 5, 4, 96, 46]
abbrev dktL_law_42 : List UInt8 := dkwL_law_42 ++ dktL_law_43
def dkwL_law_41 : List UInt8 := [25, 4, 3, 49, 151, 153, 0, 11, 24, 7, 24, 7, 151, 154, 0, 5, 3, 172, 167, 2, 47, 43, 42]
abbrev dktL_law_41 : List UInt8 := dkwL_law_41 ++ dktL_law_42
def dkwL_law_40 : List UInt8 := [159, 0, 5, 3, 172, 21, 6, 154, 0, 35, 25, 4, 3, 49, 24, 7, 151, 153, 0, 25, 25, 4, 3, 49]
abbrev dktL_law_40 : List UInt8 := dkwL_law_40 ++ dktL_law_41
def dkwL_law_39 : List UInt8 := [184, 0, 154, 54, 6, 44, 42, 21, 5, 4, 96, 46, 182, 0, 157, 57, 7, 44, 182, 0, 107, 21, 6]
abbrev dktL_law_39 : List UInt8 := dkwL_law_39 ++ dktL_law_40
def dkwL_law_38 : List UInt8 := [47, 21, 7, 133, 148, 153, 0, 5, 3, 172, 167, 2, 124, 43, 42, 21, 5, 4, 96, 46, 25, 4]
abbrev dktL_law_38 : List UInt8 := dkwL_law_38 ++ dktL_law_39
def dkwL_law_37 : List UInt8 := [46, 182, 0, 153, 54, 7, 44, 182, 0, 107, 21, 6, 159, 0, 5, 3, 172, 21, 6, 154, 0, 15, 45, 3]
abbrev dktL_law_37 : List UInt8 := dkwL_law_37 ++ dktL_law_38
def dkwL_law_36 : List UInt8 := [42, 21, 5, 5, 96, 46, 45, 184, 0, 151, 54, 6, 44, 42, 21, 5, 4, 96, 46, 42, 21, 5, 5, 96]
abbrev dktL_law_36 : List UInt8 := dkwL_law_36 ++ dktL_law_37
def dkwL_law_35 : List UInt8 := [154, 0, 14, 45, 3, 47, 22, 7, 148, 153, 0, 5, 3, 172, 167, 2, 192, 43, 42, 21, 5, 4, 96, 46]
abbrev dktL_law_35 : List UInt8 := dkwL_law_35 ++ dktL_law_36
def dkwL_law_34 : List UInt8 := [21, 5, 4, 96, 46, 182, 0, 150, 55, 7, 44, 182, 0, 107, 21, 6, 159, 0, 5, 3, 172, 21, 6]
abbrev dktL_law_34 : List UInt8 := dkwL_law_34 ++ dktL_law_35
def dkwL_law_33 : List UInt8 := [153, 0, 5, 3, 172, 167, 2, 247, 43, 42, 21, 5, 4, 96, 46, 45, 184, 0, 148, 54, 6, 44, 42]
abbrev dktL_law_33 : List UInt8 := dkwL_law_33 ++ dktL_law_34
def dkwL_law_32 : List UInt8 := [55, 7, 44, 182, 0, 107, 21, 6, 159, 0, 5, 3, 172, 21, 6, 154, 0, 14, 45, 3, 47, 22, 7, 148]
abbrev dktL_law_32 : List UInt8 := dkwL_law_32 ++ dktL_law_33
def dkwL_law_31 : List UInt8 := [43, 42, 21, 5, 4, 96, 46, 45, 184, 0, 145, 54, 6, 44, 42, 21, 5, 4, 96, 46, 182, 0, 147]
abbrev dktL_law_31 : List UInt8 := dkwL_law_31 ++ dktL_law_32
def dkwL_law_30 : List UInt8 := [159, 0, 5, 3, 172, 21, 6, 154, 0, 14, 45, 3, 47, 22, 7, 148, 153, 0, 5, 3, 172, 167, 3, 46]
abbrev dktL_law_30 : List UInt8 := dkwL_law_30 ++ dktL_law_31
def dkwL_law_29 : List UInt8 := [21, 5, 4, 96, 46, 42, 21, 5, 5, 96, 46, 182, 0, 144, 55, 7, 44, 182, 0, 107, 21, 6]
abbrev dktL_law_29 : List UInt8 := dkwL_law_29 ++ dktL_law_30
def dkwL_law_28 : List UInt8 := [167, 3, 113, 43, 42, 21, 5, 4, 96, 46, 42, 21, 5, 5, 96, 46, 45, 184, 0, 142, 54, 6, 44, 42]
abbrev dktL_law_28 : List UInt8 := dkwL_law_28 ++ dktL_law_29
def dkwL_law_27 : List UInt8 := [159, 0, 5, 3, 172, 21, 6, 154, 0, 15, 45, 3, 47, 21, 7, 133, 148, 153, 0, 5, 3, 172]
abbrev dktL_law_27 : List UInt8 := dkwL_law_27 ++ dktL_law_28
def dkwL_law_26 : List UInt8 := [21, 5, 4, 96, 46, 42, 21, 5, 5, 96, 46, 182, 0, 141, 54, 7, 44, 182, 0, 107, 21, 6]
abbrev dktL_law_26 : List UInt8 := dkwL_law_26 ++ dktL_law_27
def dkwL_law_25 : List UInt8 := [167, 3, 181, 43, 42, 21, 5, 4, 96, 46, 42, 21, 5, 5, 96, 46, 45, 184, 0, 139, 54, 6, 44, 42]
abbrev dktL_law_25 : List UInt8 := dkwL_law_25 ++ dktL_law_26
def dkwL_law_24 : List UInt8 := [159, 0, 5, 3, 172, 21, 6, 154, 0, 15, 45, 3, 47, 21, 7, 133, 148, 153, 0, 5, 3, 172]
abbrev dktL_law_24 : List UInt8 := dkwL_law_24 ++ dktL_law_25
def dkwL_law_23 : List UInt8 := [184, 0, 136, 54, 6, 44, 42, 21, 5, 4, 96, 46, 182, 0, 138, 54, 7, 44, 182, 0, 107, 21, 6]
abbrev dktL_law_23 : List UInt8 := dkwL_law_23 ++ dktL_law_24
def dkwL_law_22 : List UInt8 := [3, 47, 21, 7, 133, 148, 153, 0, 5, 3, 172, 167, 3, 237, 43, 42, 21, 5, 4, 96, 46, 45]
abbrev dktL_law_22 : List UInt8 := dkwL_law_22 ++ dktL_law_23
def dkwL_law_21 : List UInt8 := [96, 46, 182, 0, 135, 54, 7, 44, 182, 0, 107, 21, 6, 159, 0, 5, 3, 172, 21, 6, 154, 0, 15, 45]
abbrev dktL_law_21 : List UInt8 := dkwL_law_21 ++ dktL_law_22
def dkwL_law_20 : List UInt8 := [46, 42, 21, 5, 5, 96, 46, 45, 184, 0, 133, 54, 6, 44, 42, 21, 5, 4, 96, 46, 42, 21, 5, 5]
abbrev dktL_law_20 : List UInt8 := dkwL_law_20 ++ dktL_law_21
def dkwL_law_19 : List UInt8 := [154, 0, 15, 45, 3, 47, 21, 7, 133, 148, 153, 0, 5, 3, 172, 167, 4, 49, 43, 42, 21, 5, 4, 96]
abbrev dktL_law_19 : List UInt8 := dkwL_law_19 ++ dktL_law_20
def dkwL_law_18 : List UInt8 := [42, 21, 5, 5, 96, 46, 182, 0, 132, 54, 7, 44, 182, 0, 107, 21, 6, 159, 0, 5, 3, 172, 21, 6]
abbrev dktL_law_18 : List UInt8 := dkwL_law_18 ++ dktL_law_19
def dkwL_law_17 : List UInt8 := [21, 5, 4, 96, 46, 42, 21, 5, 5, 96, 46, 45, 184, 0, 130, 54, 6, 44, 42, 21, 5, 4, 96, 46]
abbrev dktL_law_17 : List UInt8 := dkwL_law_17 ++ dktL_law_18
def dkwL_law_16 : List UInt8 := [148, 153, 0, 5, 3, 172, 167, 4, 130, 43, 182, 0, 125, 44, 182, 0, 129, 159, 4, 119, 3, 172, 43, 42]
abbrev dktL_law_16 : List UInt8 := dkwL_law_16 ++ dktL_law_17
def dkwL_law_15 : List UInt8 := [54, 7, 44, 182, 0, 107, 21, 6, 159, 0, 5, 3, 172, 21, 6, 154, 0, 15, 45, 3, 47, 21, 7, 133]
abbrev dktL_law_15 : List UInt8 := dkwL_law_15 ++ dktL_law_16
def dkwL_law_14 : List UInt8 := [21, 7, 133, 148, 153, 0, 5, 3, 172, 167, 4, 174, 43, 45, 184, 0, 121, 54, 6, 44, 182, 0, 124]
abbrev dktL_law_14 : List UInt8 := dkwL_law_14 ++ dktL_law_15
def dkwL_law_13 : List UInt8 := [182, 0, 120, 54, 7, 44, 182, 0, 107, 21, 6, 159, 0, 5, 3, 172, 21, 6, 154, 0, 15, 45, 3, 47]
abbrev dktL_law_13 : List UInt8 := dkwL_law_13 ++ dktL_law_14
def dkwL_law_12 : List UInt8 := [5, 96, 46, 45, 184, 0, 118, 54, 6, 44, 42, 21, 5, 4, 96, 46, 42, 21, 5, 5, 96, 46]
abbrev dktL_law_12 : List UInt8 := dkwL_law_12 ++ dktL_law_13
def dkwL_law_11 : List UInt8 := [3, 47, 21, 7, 133, 148, 153, 0, 5, 3, 172, 167, 4, 242, 43, 42, 21, 5, 4, 96, 46, 42, 21, 5]
abbrev dktL_law_11 : List UInt8 := dkwL_law_11 ++ dktL_law_12
def dkwL_law_10 : List UInt8 := [96, 46, 182, 0, 117, 54, 7, 44, 182, 0, 107, 21, 6, 159, 0, 5, 3, 172, 21, 6, 154, 0, 15, 45]
abbrev dktL_law_10 : List UInt8 := dkwL_law_10 ++ dktL_law_11
def dkwL_law_9 : List UInt8 := [46, 42, 21, 5, 5, 96, 46, 45, 184, 0, 114, 54, 6, 44, 42, 21, 5, 4, 96, 46, 42, 21, 5, 5]
abbrev dktL_law_9 : List UInt8 := dkwL_law_9 ++ dktL_law_10
def dkwL_law_8 : List UInt8 := [154, 0, 15, 45, 3, 47, 21, 7, 133, 148, 153, 0, 5, 3, 172, 167, 5, 54, 43, 42, 21, 5, 4, 96]
abbrev dktL_law_8 : List UInt8 := dkwL_law_8 ++ dktL_law_9
def dkwL_law_7 : List UInt8 := [21, 5, 4, 96, 46, 182, 0, 113, 54, 7, 44, 182, 0, 107, 21, 6, 159, 0, 5, 3, 172, 21, 6]
abbrev dktL_law_7 : List UInt8 := dkwL_law_7 ++ dktL_law_8
def dkwL_law_6 : List UInt8 := [148, 153, 0, 5, 3, 172, 167, 5, 110, 43, 42, 21, 5, 4, 96, 46, 45, 184, 0, 110, 54, 6, 44, 42]
abbrev dktL_law_6 : List UInt8 := dkwL_law_6 ++ dktL_law_7
def dkwL_law_5 : List UInt8 := [54, 7, 44, 182, 0, 107, 21, 6, 159, 0, 5, 3, 172, 21, 6, 154, 0, 15, 45, 3, 47, 21, 7, 133]
abbrev dktL_law_5 : List UInt8 := dkwL_law_5 ++ dktL_law_6
def dkwL_law_4 : List UInt8 := [54, 6, 44, 42, 21, 5, 4, 96, 46, 42, 21, 5, 5, 96, 46, 42, 21, 5, 6, 96, 46, 182, 0, 106]
abbrev dktL_law_4 : List UInt8 := dkwL_law_4 ++ dktL_law_5
def dkwL_law_3 : List UInt8 := [43, 42, 21, 5, 4, 96, 46, 42, 21, 5, 5, 96, 46, 42, 21, 5, 6, 96, 46, 45, 184, 0, 101]
abbrev dktL_law_3 : List UInt8 := dkwL_law_3 ++ dktL_law_4
def dkwL_law_2 : List UInt8 := [170, 0, 0, 0, 0, 0, 6, 51, 0, 0, 0, 0, 0, 0, 0, 25, 0, 0, 0, 120, 0, 0, 0, 200, 0, 0, 1, 0, 0, 0, 1, 68, 0, 0, 1, 136, 0, 0, 1, 180, 0, 0, 1, 193, 0, 0, 2, 5, 0, 0, 2, 73, 0, 0, 2, 129, 0, 0, 2, 197, 0, 0, 3, 8, 0, 0, 3, 63, 0, 0, 3, 118, 0, 0, 3, 186, 0, 0, 4, 7, 0, 0, 4, 75, 0, 0, 4, 119, 0, 0, 4, 199, 0, 0, 5, 11, 0, 0, 5, 24, 0, 0, 5, 92, 0, 0, 5, 150, 0, 0, 5, 194, 0, 0, 5, 250, 0, 0, 6, 7]
abbrev dktL_law_2 : List UInt8 := dkwL_law_2 ++ dktL_law_3
def dkwL_law_1 : List UInt8 := [58, 4, 3, 54, 5, 21, 5, 42, 190, 7, 100, 163, 6, 67, 42, 21, 5, 46, 16, 31, 126]
abbrev dktL_law_1 : List UInt8 := dkwL_law_1 ++ dktL_law_2
def dkwL_law_0 : List UInt8 := [187, 0, 8, 89, 183, 0, 97, 76, 187, 0, 98, 89, 183, 0, 100, 77, 4, 188, 11, 78, 4, 188, 7]
abbrev dktL_law_0 : List UInt8 := dkwL_law_0 ++ dktL_law_1
theorem dksL_law_0 : cL_law.data.toList.drop 0 = dktL_law_0 := by decide +kernel
theorem dksL_law_1 : cL_law.data.toList.drop 23 = dktL_law_1 := dk_seg dksL_law_0 23 rfl rfl
theorem dksL_law_2 : cL_law.data.toList.drop 44 = dktL_law_2 := dk_seg dksL_law_1 21 rfl rfl
theorem dksL_law_3 : cL_law.data.toList.drop 164 = dktL_law_3 := dk_seg dksL_law_2 120 rfl rfl
theorem dksL_law_4 : cL_law.data.toList.drop 187 = dktL_law_4 := dk_seg dksL_law_3 23 rfl rfl
theorem dksL_law_5 : cL_law.data.toList.drop 211 = dktL_law_5 := dk_seg dksL_law_4 24 rfl rfl
theorem dksL_law_6 : cL_law.data.toList.drop 235 = dktL_law_6 := dk_seg dksL_law_5 24 rfl rfl
theorem dksL_law_7 : cL_law.data.toList.drop 259 = dktL_law_7 := dk_seg dksL_law_6 24 rfl rfl
theorem dksL_law_8 : cL_law.data.toList.drop 282 = dktL_law_8 := dk_seg dksL_law_7 23 rfl rfl
theorem dksL_law_9 : cL_law.data.toList.drop 306 = dktL_law_9 := dk_seg dksL_law_8 24 rfl rfl
theorem dksL_law_10 : cL_law.data.toList.drop 330 = dktL_law_10 := dk_seg dksL_law_9 24 rfl rfl
theorem dksL_law_11 : cL_law.data.toList.drop 354 = dktL_law_11 := dk_seg dksL_law_10 24 rfl rfl
theorem dksL_law_12 : cL_law.data.toList.drop 378 = dktL_law_12 := dk_seg dksL_law_11 24 rfl rfl
theorem dksL_law_13 : cL_law.data.toList.drop 400 = dktL_law_13 := dk_seg dksL_law_12 22 rfl rfl
theorem dksL_law_14 : cL_law.data.toList.drop 424 = dktL_law_14 := dk_seg dksL_law_13 24 rfl rfl
theorem dksL_law_15 : cL_law.data.toList.drop 447 = dktL_law_15 := dk_seg dksL_law_14 23 rfl rfl
theorem dksL_law_16 : cL_law.data.toList.drop 471 = dktL_law_16 := dk_seg dksL_law_15 24 rfl rfl
theorem dksL_law_17 : cL_law.data.toList.drop 495 = dktL_law_17 := dk_seg dksL_law_16 24 rfl rfl
theorem dksL_law_18 : cL_law.data.toList.drop 519 = dktL_law_18 := dk_seg dksL_law_17 24 rfl rfl
theorem dksL_law_19 : cL_law.data.toList.drop 543 = dktL_law_19 := dk_seg dksL_law_18 24 rfl rfl
theorem dksL_law_20 : cL_law.data.toList.drop 567 = dktL_law_20 := dk_seg dksL_law_19 24 rfl rfl
theorem dksL_law_21 : cL_law.data.toList.drop 591 = dktL_law_21 := dk_seg dksL_law_20 24 rfl rfl
theorem dksL_law_22 : cL_law.data.toList.drop 615 = dktL_law_22 := dk_seg dksL_law_21 24 rfl rfl
theorem dksL_law_23 : cL_law.data.toList.drop 637 = dktL_law_23 := dk_seg dksL_law_22 22 rfl rfl
theorem dksL_law_24 : cL_law.data.toList.drop 660 = dktL_law_24 := dk_seg dksL_law_23 23 rfl rfl
theorem dksL_law_25 : cL_law.data.toList.drop 682 = dktL_law_25 := dk_seg dksL_law_24 22 rfl rfl
theorem dksL_law_26 : cL_law.data.toList.drop 706 = dktL_law_26 := dk_seg dksL_law_25 24 rfl rfl
theorem dksL_law_27 : cL_law.data.toList.drop 728 = dktL_law_27 := dk_seg dksL_law_26 22 rfl rfl
theorem dksL_law_28 : cL_law.data.toList.drop 750 = dktL_law_28 := dk_seg dksL_law_27 22 rfl rfl
theorem dksL_law_29 : cL_law.data.toList.drop 774 = dktL_law_29 := dk_seg dksL_law_28 24 rfl rfl
theorem dksL_law_30 : cL_law.data.toList.drop 796 = dktL_law_30 := dk_seg dksL_law_29 22 rfl rfl
theorem dksL_law_31 : cL_law.data.toList.drop 820 = dktL_law_31 := dk_seg dksL_law_30 24 rfl rfl
theorem dksL_law_32 : cL_law.data.toList.drop 843 = dktL_law_32 := dk_seg dksL_law_31 23 rfl rfl
theorem dksL_law_33 : cL_law.data.toList.drop 867 = dktL_law_33 := dk_seg dksL_law_32 24 rfl rfl
theorem dksL_law_34 : cL_law.data.toList.drop 890 = dktL_law_34 := dk_seg dksL_law_33 23 rfl rfl
theorem dksL_law_35 : cL_law.data.toList.drop 913 = dktL_law_35 := dk_seg dksL_law_34 23 rfl rfl
theorem dksL_law_36 : cL_law.data.toList.drop 937 = dktL_law_36 := dk_seg dksL_law_35 24 rfl rfl
theorem dksL_law_37 : cL_law.data.toList.drop 961 = dktL_law_37 := dk_seg dksL_law_36 24 rfl rfl
theorem dksL_law_38 : cL_law.data.toList.drop 985 = dktL_law_38 := dk_seg dksL_law_37 24 rfl rfl
theorem dksL_law_39 : cL_law.data.toList.drop 1007 = dktL_law_39 := dk_seg dksL_law_38 22 rfl rfl
theorem dksL_law_40 : cL_law.data.toList.drop 1030 = dktL_law_40 := dk_seg dksL_law_39 23 rfl rfl
theorem dksL_law_41 : cL_law.data.toList.drop 1054 = dktL_law_41 := dk_seg dksL_law_40 24 rfl rfl
theorem dksL_law_42 : cL_law.data.toList.drop 1077 = dktL_law_42 := dk_seg dksL_law_41 23 rfl rfl
theorem dksL_law_43 : cL_law.data.toList.drop 1101 = dktL_law_43 := dk_seg dksL_law_42 24 rfl rfl
theorem dksL_law_44 : cL_law.data.toList.drop 1125 = dktL_law_44 := dk_seg dksL_law_43 24 rfl rfl
theorem dksL_law_45 : cL_law.data.toList.drop 1148 = dktL_law_45 := dk_seg dksL_law_44 23 rfl rfl
theorem dksL_law_46 : cL_law.data.toList.drop 1172 = dktL_law_46 := dk_seg dksL_law_45 24 rfl rfl
theorem dksL_law_47 : cL_law.data.toList.drop 1195 = dktL_law_47 := dk_seg dksL_law_46 23 rfl rfl
theorem dksL_law_48 : cL_law.data.toList.drop 1219 = dktL_law_48 := dk_seg dksL_law_47 24 rfl rfl
theorem dksL_law_49 : cL_law.data.toList.drop 1242 = dktL_law_49 := dk_seg dksL_law_48 23 rfl rfl
theorem dksL_law_50 : cL_law.data.toList.drop 1264 = dktL_law_50 := dk_seg dksL_law_49 22 rfl rfl
theorem dksL_law_51 : cL_law.data.toList.drop 1288 = dktL_law_51 := dk_seg dksL_law_50 24 rfl rfl
theorem dksL_law_52 : cL_law.data.toList.drop 1310 = dktL_law_52 := dk_seg dksL_law_51 22 rfl rfl
theorem dksL_law_53 : cL_law.data.toList.drop 1332 = dktL_law_53 := dk_seg dksL_law_52 22 rfl rfl
theorem dksL_law_54 : cL_law.data.toList.drop 1356 = dktL_law_54 := dk_seg dksL_law_53 24 rfl rfl
theorem dksL_law_55 : cL_law.data.toList.drop 1380 = dktL_law_55 := dk_seg dksL_law_54 24 rfl rfl
theorem dksL_law_56 : cL_law.data.toList.drop 1404 = dktL_law_56 := dk_seg dksL_law_55 24 rfl rfl
theorem dksL_law_57 : cL_law.data.toList.drop 1428 = dktL_law_57 := dk_seg dksL_law_56 24 rfl rfl
theorem dksL_law_58 : cL_law.data.toList.drop 1452 = dktL_law_58 := dk_seg dksL_law_57 24 rfl rfl
theorem dksL_law_59 : cL_law.data.toList.drop 1476 = dktL_law_59 := dk_seg dksL_law_58 24 rfl rfl
theorem dksL_law_60 : cL_law.data.toList.drop 1500 = dktL_law_60 := dk_seg dksL_law_59 24 rfl rfl
theorem dksL_law_61 : cL_law.data.toList.drop 1524 = dktL_law_61 := dk_seg dksL_law_60 24 rfl rfl
theorem dksL_law_62 : cL_law.data.toList.drop 1547 = dktL_law_62 := dk_seg dksL_law_61 23 rfl rfl
theorem dksL_law_63 : cL_law.data.toList.drop 1571 = dktL_law_63 := dk_seg dksL_law_62 24 rfl rfl
theorem dksL_law_64 : cL_law.data.toList.drop 1595 = dktL_law_64 := dk_seg dksL_law_63 24 rfl rfl
theorem dksL_law_65 : cL_law.data.toList.drop 1619 = dktL_law_65 := dk_seg dksL_law_64 24 rfl rfl
theorem dL_law_0 : decode cL_law 0 = .ok (.new 8, 3) := dk_187 0 8 (dk_at dksL_law_0 0 rfl rfl)
theorem dL_law_3 : decode cL_law 3 = .ok (.dup, 1) := dk_89 (dk_at dksL_law_0 3 rfl rfl)
theorem dL_law_4 : decode cL_law 4 = .ok (.invokespecial 97, 3) := dk_183 0 97 (dk_at dksL_law_0 4 rfl rfl)
theorem dL_law_7 : decode cL_law 7 = .ok (.astore_n 1, 1) := dk_76 (dk_at dksL_law_0 7 rfl rfl)
theorem dL_law_8 : decode cL_law 8 = .ok (.new 98, 3) := dk_187 0 98 (dk_at dksL_law_0 8 rfl rfl)
theorem dL_law_11 : decode cL_law 11 = .ok (.dup, 1) := dk_89 (dk_at dksL_law_0 11 rfl rfl)
theorem dL_law_12 : decode cL_law 12 = .ok (.invokespecial 100, 3) := dk_183 0 100 (dk_at dksL_law_0 12 rfl rfl)
theorem dL_law_15 : decode cL_law 15 = .ok (.astore_n 2, 1) := dk_77 (dk_at dksL_law_0 15 rfl rfl)
theorem dL_law_16 : decode cL_law 16 = .ok (.iconst 1, 1) := dk_4 (dk_at dksL_law_0 16 rfl rfl)
theorem dL_law_17 : decode cL_law 17 = .ok (.newarray .long, 2) := dk_188_11 (dk_at dksL_law_0 17 rfl rfl)
theorem dL_law_19 : decode cL_law 19 = .ok (.astore_n 3, 1) := dk_78 (dk_at dksL_law_0 19 rfl rfl)
theorem dL_law_20 : decode cL_law 20 = .ok (.iconst 1, 1) := dk_4 (dk_at dksL_law_0 20 rfl rfl)
theorem dL_law_21 : decode cL_law 21 = .ok (.newarray .double, 2) := dk_188_7 (dk_at dksL_law_0 21 rfl rfl)
theorem dL_law_23 : decode cL_law 23 = .ok (.astore 4, 2) := dk_58 4 (dk_at dksL_law_1 0 rfl rfl)
theorem dL_law_25 : decode cL_law 25 = .ok (.iconst 0, 1) := dk_3 (dk_at dksL_law_1 2 rfl rfl)
theorem dL_law_26 : decode cL_law 26 = .ok (.istore 5, 2) := dk_54 5 (dk_at dksL_law_1 3 rfl rfl)
theorem dL_law_28 : decode cL_law 28 = .ok (.iload 5, 2) := dk_21 5 (dk_at dksL_law_1 5 rfl rfl)
theorem dL_law_30 : decode cL_law 30 = .ok (.aload_n 0, 1) := dk_42 (dk_at dksL_law_1 7 rfl rfl)
theorem dL_law_31 : decode cL_law 31 = .ok (.arraylength, 1) := dk_190 (dk_at dksL_law_1 8 rfl rfl)
theorem dL_law_32 : decode cL_law 32 = .ok (.iconst 4, 1) := dk_7 (dk_at dksL_law_1 9 rfl rfl)
theorem dL_law_33 : decode cL_law 33 = .ok (.isub, 1) := dk_100 (dk_at dksL_law_1 10 rfl rfl)
theorem dL_law_34 : decode cL_law 34 = .ok (.if_icmp .gt 1603, 3) := dk_163 6 67 (dk_at dksL_law_1 11 rfl rfl)
theorem dL_law_37 : decode cL_law 37 = .ok (.aload_n 0, 1) := dk_42 (dk_at dksL_law_1 14 rfl rfl)
theorem dL_law_38 : decode cL_law 38 = .ok (.iload 5, 2) := dk_21 5 (dk_at dksL_law_1 15 rfl rfl)
theorem dL_law_40 : decode cL_law 40 = .ok (.iaload, 1) := dk_46 (dk_at dksL_law_1 17 rfl rfl)
theorem dL_law_41 : decode cL_law 41 = .ok (.bipush 31, 2) := dk_16 31 (dk_at dksL_law_1 18 rfl rfl)
theorem dL_law_43 : decode cL_law 43 = .ok (.iand, 1) := dk_126 (dk_at dksL_law_1 20 rfl rfl)
theorem dL_law_44 : decode cL_law 44 = .ok (.tableswitch 1587 0 25 #[120, 200, 256, 324, 392, 436, 449, 517, 585, 641, 709, 776, 831, 886, 954, 1031, 1099, 1143, 1223, 1291, 1304, 1372, 1430, 1474, 1530, 1543], 120) := by decide +kernel
theorem dL_law_164 : decode cL_law 164 = .ok (.aload_n 1, 1) := dk_43 (dk_at dksL_law_3 0 rfl rfl)
theorem dL_law_165 : decode cL_law 165 = .ok (.aload_n 0, 1) := dk_42 (dk_at dksL_law_3 1 rfl rfl)
theorem dL_law_166 : decode cL_law 166 = .ok (.iload 5, 2) := dk_21 5 (dk_at dksL_law_3 2 rfl rfl)
theorem dL_law_168 : decode cL_law 168 = .ok (.iconst 1, 1) := dk_4 (dk_at dksL_law_3 4 rfl rfl)
theorem dL_law_169 : decode cL_law 169 = .ok (.iadd, 1) := dk_96 (dk_at dksL_law_3 5 rfl rfl)
theorem dL_law_170 : decode cL_law 170 = .ok (.iaload, 1) := dk_46 (dk_at dksL_law_3 6 rfl rfl)
theorem dL_law_171 : decode cL_law 171 = .ok (.aload_n 0, 1) := dk_42 (dk_at dksL_law_3 7 rfl rfl)
theorem dL_law_172 : decode cL_law 172 = .ok (.iload 5, 2) := dk_21 5 (dk_at dksL_law_3 8 rfl rfl)
theorem dL_law_174 : decode cL_law 174 = .ok (.iconst 2, 1) := dk_5 (dk_at dksL_law_3 10 rfl rfl)
theorem dL_law_175 : decode cL_law 175 = .ok (.iadd, 1) := dk_96 (dk_at dksL_law_3 11 rfl rfl)
theorem dL_law_176 : decode cL_law 176 = .ok (.iaload, 1) := dk_46 (dk_at dksL_law_3 12 rfl rfl)
theorem dL_law_177 : decode cL_law 177 = .ok (.aload_n 0, 1) := dk_42 (dk_at dksL_law_3 13 rfl rfl)
theorem dL_law_178 : decode cL_law 178 = .ok (.iload 5, 2) := dk_21 5 (dk_at dksL_law_3 14 rfl rfl)
theorem dL_law_180 : decode cL_law 180 = .ok (.iconst 3, 1) := dk_6 (dk_at dksL_law_3 16 rfl rfl)
theorem dL_law_181 : decode cL_law 181 = .ok (.iadd, 1) := dk_96 (dk_at dksL_law_3 17 rfl rfl)
theorem dL_law_182 : decode cL_law 182 = .ok (.iaload, 1) := dk_46 (dk_at dksL_law_3 18 rfl rfl)
theorem dL_law_183 : decode cL_law 183 = .ok (.aload_n 3, 1) := dk_45 (dk_at dksL_law_3 19 rfl rfl)
theorem dL_law_184 : decode cL_law 184 = .ok (.invokestatic 101, 3) := dk_184 0 101 (dk_at dksL_law_3 20 rfl rfl)
theorem dL_law_187 : decode cL_law 187 = .ok (.istore 6, 2) := dk_54 6 (dk_at dksL_law_4 0 rfl rfl)
theorem dL_law_189 : decode cL_law 189 = .ok (.aload_n 2, 1) := dk_44 (dk_at dksL_law_4 2 rfl rfl)
theorem dL_law_190 : decode cL_law 190 = .ok (.aload_n 0, 1) := dk_42 (dk_at dksL_law_4 3 rfl rfl)
theorem dL_law_191 : decode cL_law 191 = .ok (.iload 5, 2) := dk_21 5 (dk_at dksL_law_4 4 rfl rfl)
theorem dL_law_193 : decode cL_law 193 = .ok (.iconst 1, 1) := dk_4 (dk_at dksL_law_4 6 rfl rfl)
theorem dL_law_194 : decode cL_law 194 = .ok (.iadd, 1) := dk_96 (dk_at dksL_law_4 7 rfl rfl)
theorem dL_law_195 : decode cL_law 195 = .ok (.iaload, 1) := dk_46 (dk_at dksL_law_4 8 rfl rfl)
theorem dL_law_196 : decode cL_law 196 = .ok (.aload_n 0, 1) := dk_42 (dk_at dksL_law_4 9 rfl rfl)
theorem dL_law_197 : decode cL_law 197 = .ok (.iload 5, 2) := dk_21 5 (dk_at dksL_law_4 10 rfl rfl)
theorem dL_law_199 : decode cL_law 199 = .ok (.iconst 2, 1) := dk_5 (dk_at dksL_law_4 12 rfl rfl)
theorem dL_law_200 : decode cL_law 200 = .ok (.iadd, 1) := dk_96 (dk_at dksL_law_4 13 rfl rfl)
theorem dL_law_201 : decode cL_law 201 = .ok (.iaload, 1) := dk_46 (dk_at dksL_law_4 14 rfl rfl)
theorem dL_law_202 : decode cL_law 202 = .ok (.aload_n 0, 1) := dk_42 (dk_at dksL_law_4 15 rfl rfl)
theorem dL_law_203 : decode cL_law 203 = .ok (.iload 5, 2) := dk_21 5 (dk_at dksL_law_4 16 rfl rfl)
theorem dL_law_205 : decode cL_law 205 = .ok (.iconst 3, 1) := dk_6 (dk_at dksL_law_4 18 rfl rfl)
theorem dL_law_206 : decode cL_law 206 = .ok (.iadd, 1) := dk_96 (dk_at dksL_law_4 19 rfl rfl)
theorem dL_law_207 : decode cL_law 207 = .ok (.iaload, 1) := dk_46 (dk_at dksL_law_4 20 rfl rfl)
theorem dL_law_208 : decode cL_law 208 = .ok (.invokevirtual 106, 3) := dk_182 0 106 (dk_at dksL_law_4 21 rfl rfl)
theorem dL_law_211 : decode cL_law 211 = .ok (.istore 7, 2) := dk_54 7 (dk_at dksL_law_5 0 rfl rfl)
theorem dL_law_213 : decode cL_law 213 = .ok (.aload_n 2, 1) := dk_44 (dk_at dksL_law_5 2 rfl rfl)
theorem dL_law_214 : decode cL_law 214 = .ok (.invokevirtual 107, 3) := dk_182 0 107 (dk_at dksL_law_5 3 rfl rfl)
theorem dL_law_217 : decode cL_law 217 = .ok (.iload 6, 2) := dk_21 6 (dk_at dksL_law_5 6 rfl rfl)
theorem dL_law_219 : decode cL_law 219 = .ok (.if_icmp .eq 5, 3) := dk_159 0 5 (dk_at dksL_law_5 8 rfl rfl)
theorem dL_law_222 : decode cL_law 222 = .ok (.iconst 0, 1) := dk_3 (dk_at dksL_law_5 11 rfl rfl)
theorem dL_law_223 : decode cL_law 223 = .ok (.ireturn, 1) := dk_172 (dk_at dksL_law_5 12 rfl rfl)
theorem dL_law_224 : decode cL_law 224 = .ok (.iload 6, 2) := dk_21 6 (dk_at dksL_law_5 13 rfl rfl)
theorem dL_law_226 : decode cL_law 226 = .ok (.ifCond .ne 15, 3) := dk_154 0 15 (dk_at dksL_law_5 15 rfl rfl)
theorem dL_law_229 : decode cL_law 229 = .ok (.aload_n 3, 1) := dk_45 (dk_at dksL_law_5 18 rfl rfl)
theorem dL_law_230 : decode cL_law 230 = .ok (.iconst 0, 1) := dk_3 (dk_at dksL_law_5 19 rfl rfl)
theorem dL_law_231 : decode cL_law 231 = .ok (.laload, 1) := dk_47 (dk_at dksL_law_5 20 rfl rfl)
theorem dL_law_232 : decode cL_law 232 = .ok (.iload 7, 2) := dk_21 7 (dk_at dksL_law_5 21 rfl rfl)
theorem dL_law_234 : decode cL_law 234 = .ok (.i2l, 1) := dk_133 (dk_at dksL_law_5 23 rfl rfl)
theorem dL_law_235 : decode cL_law 235 = .ok (.lcmp, 1) := dk_148 (dk_at dksL_law_6 0 rfl rfl)
theorem dL_law_236 : decode cL_law 236 = .ok (.ifCond .eq 5, 3) := dk_153 0 5 (dk_at dksL_law_6 1 rfl rfl)
theorem dL_law_239 : decode cL_law 239 = .ok (.iconst 0, 1) := dk_3 (dk_at dksL_law_6 4 rfl rfl)
theorem dL_law_240 : decode cL_law 240 = .ok (.ireturn, 1) := dk_172 (dk_at dksL_law_6 5 rfl rfl)
theorem dL_law_241 : decode cL_law 241 = .ok (.goto 1390, 3) := dk_167 5 110 (dk_at dksL_law_6 6 rfl rfl)
theorem dL_law_244 : decode cL_law 244 = .ok (.aload_n 1, 1) := dk_43 (dk_at dksL_law_6 9 rfl rfl)
theorem dL_law_245 : decode cL_law 245 = .ok (.aload_n 0, 1) := dk_42 (dk_at dksL_law_6 10 rfl rfl)
theorem dL_law_246 : decode cL_law 246 = .ok (.iload 5, 2) := dk_21 5 (dk_at dksL_law_6 11 rfl rfl)
theorem dL_law_248 : decode cL_law 248 = .ok (.iconst 1, 1) := dk_4 (dk_at dksL_law_6 13 rfl rfl)
theorem dL_law_249 : decode cL_law 249 = .ok (.iadd, 1) := dk_96 (dk_at dksL_law_6 14 rfl rfl)
theorem dL_law_250 : decode cL_law 250 = .ok (.iaload, 1) := dk_46 (dk_at dksL_law_6 15 rfl rfl)
theorem dL_law_251 : decode cL_law 251 = .ok (.aload_n 3, 1) := dk_45 (dk_at dksL_law_6 16 rfl rfl)
theorem dL_law_252 : decode cL_law 252 = .ok (.invokestatic 110, 3) := dk_184 0 110 (dk_at dksL_law_6 17 rfl rfl)
theorem dL_law_255 : decode cL_law 255 = .ok (.istore 6, 2) := dk_54 6 (dk_at dksL_law_6 20 rfl rfl)
theorem dL_law_257 : decode cL_law 257 = .ok (.aload_n 2, 1) := dk_44 (dk_at dksL_law_6 22 rfl rfl)
theorem dL_law_258 : decode cL_law 258 = .ok (.aload_n 0, 1) := dk_42 (dk_at dksL_law_6 23 rfl rfl)
theorem dL_law_259 : decode cL_law 259 = .ok (.iload 5, 2) := dk_21 5 (dk_at dksL_law_7 0 rfl rfl)
theorem dL_law_261 : decode cL_law 261 = .ok (.iconst 1, 1) := dk_4 (dk_at dksL_law_7 2 rfl rfl)
theorem dL_law_262 : decode cL_law 262 = .ok (.iadd, 1) := dk_96 (dk_at dksL_law_7 3 rfl rfl)
theorem dL_law_263 : decode cL_law 263 = .ok (.iaload, 1) := dk_46 (dk_at dksL_law_7 4 rfl rfl)
theorem dL_law_264 : decode cL_law 264 = .ok (.invokevirtual 113, 3) := dk_182 0 113 (dk_at dksL_law_7 5 rfl rfl)
theorem dL_law_267 : decode cL_law 267 = .ok (.istore 7, 2) := dk_54 7 (dk_at dksL_law_7 8 rfl rfl)
theorem dL_law_269 : decode cL_law 269 = .ok (.aload_n 2, 1) := dk_44 (dk_at dksL_law_7 10 rfl rfl)
theorem dL_law_270 : decode cL_law 270 = .ok (.invokevirtual 107, 3) := dk_182 0 107 (dk_at dksL_law_7 11 rfl rfl)
theorem dL_law_273 : decode cL_law 273 = .ok (.iload 6, 2) := dk_21 6 (dk_at dksL_law_7 14 rfl rfl)
theorem dL_law_275 : decode cL_law 275 = .ok (.if_icmp .eq 5, 3) := dk_159 0 5 (dk_at dksL_law_7 16 rfl rfl)
theorem dL_law_278 : decode cL_law 278 = .ok (.iconst 0, 1) := dk_3 (dk_at dksL_law_7 19 rfl rfl)
theorem dL_law_279 : decode cL_law 279 = .ok (.ireturn, 1) := dk_172 (dk_at dksL_law_7 20 rfl rfl)
theorem dL_law_280 : decode cL_law 280 = .ok (.iload 6, 2) := dk_21 6 (dk_at dksL_law_7 21 rfl rfl)
theorem dL_law_282 : decode cL_law 282 = .ok (.ifCond .ne 15, 3) := dk_154 0 15 (dk_at dksL_law_8 0 rfl rfl)
theorem dL_law_285 : decode cL_law 285 = .ok (.aload_n 3, 1) := dk_45 (dk_at dksL_law_8 3 rfl rfl)
theorem dL_law_286 : decode cL_law 286 = .ok (.iconst 0, 1) := dk_3 (dk_at dksL_law_8 4 rfl rfl)
theorem dL_law_287 : decode cL_law 287 = .ok (.laload, 1) := dk_47 (dk_at dksL_law_8 5 rfl rfl)
theorem dL_law_288 : decode cL_law 288 = .ok (.iload 7, 2) := dk_21 7 (dk_at dksL_law_8 6 rfl rfl)
theorem dL_law_290 : decode cL_law 290 = .ok (.i2l, 1) := dk_133 (dk_at dksL_law_8 8 rfl rfl)
theorem dL_law_291 : decode cL_law 291 = .ok (.lcmp, 1) := dk_148 (dk_at dksL_law_8 9 rfl rfl)
theorem dL_law_292 : decode cL_law 292 = .ok (.ifCond .eq 5, 3) := dk_153 0 5 (dk_at dksL_law_8 10 rfl rfl)
theorem dL_law_295 : decode cL_law 295 = .ok (.iconst 0, 1) := dk_3 (dk_at dksL_law_8 13 rfl rfl)
theorem dL_law_296 : decode cL_law 296 = .ok (.ireturn, 1) := dk_172 (dk_at dksL_law_8 14 rfl rfl)
theorem dL_law_297 : decode cL_law 297 = .ok (.goto 1334, 3) := dk_167 5 54 (dk_at dksL_law_8 15 rfl rfl)
theorem dL_law_300 : decode cL_law 300 = .ok (.aload_n 1, 1) := dk_43 (dk_at dksL_law_8 18 rfl rfl)
theorem dL_law_301 : decode cL_law 301 = .ok (.aload_n 0, 1) := dk_42 (dk_at dksL_law_8 19 rfl rfl)
theorem dL_law_302 : decode cL_law 302 = .ok (.iload 5, 2) := dk_21 5 (dk_at dksL_law_8 20 rfl rfl)
theorem dL_law_304 : decode cL_law 304 = .ok (.iconst 1, 1) := dk_4 (dk_at dksL_law_8 22 rfl rfl)
theorem dL_law_305 : decode cL_law 305 = .ok (.iadd, 1) := dk_96 (dk_at dksL_law_8 23 rfl rfl)
theorem dL_law_306 : decode cL_law 306 = .ok (.iaload, 1) := dk_46 (dk_at dksL_law_9 0 rfl rfl)
theorem dL_law_307 : decode cL_law 307 = .ok (.aload_n 0, 1) := dk_42 (dk_at dksL_law_9 1 rfl rfl)
theorem dL_law_308 : decode cL_law 308 = .ok (.iload 5, 2) := dk_21 5 (dk_at dksL_law_9 2 rfl rfl)
theorem dL_law_310 : decode cL_law 310 = .ok (.iconst 2, 1) := dk_5 (dk_at dksL_law_9 4 rfl rfl)
theorem dL_law_311 : decode cL_law 311 = .ok (.iadd, 1) := dk_96 (dk_at dksL_law_9 5 rfl rfl)
theorem dL_law_312 : decode cL_law 312 = .ok (.iaload, 1) := dk_46 (dk_at dksL_law_9 6 rfl rfl)
theorem dL_law_313 : decode cL_law 313 = .ok (.aload_n 3, 1) := dk_45 (dk_at dksL_law_9 7 rfl rfl)
theorem dL_law_314 : decode cL_law 314 = .ok (.invokestatic 114, 3) := dk_184 0 114 (dk_at dksL_law_9 8 rfl rfl)
theorem dL_law_317 : decode cL_law 317 = .ok (.istore 6, 2) := dk_54 6 (dk_at dksL_law_9 11 rfl rfl)
theorem dL_law_319 : decode cL_law 319 = .ok (.aload_n 2, 1) := dk_44 (dk_at dksL_law_9 13 rfl rfl)
theorem dL_law_320 : decode cL_law 320 = .ok (.aload_n 0, 1) := dk_42 (dk_at dksL_law_9 14 rfl rfl)
theorem dL_law_321 : decode cL_law 321 = .ok (.iload 5, 2) := dk_21 5 (dk_at dksL_law_9 15 rfl rfl)
theorem dL_law_323 : decode cL_law 323 = .ok (.iconst 1, 1) := dk_4 (dk_at dksL_law_9 17 rfl rfl)
theorem dL_law_324 : decode cL_law 324 = .ok (.iadd, 1) := dk_96 (dk_at dksL_law_9 18 rfl rfl)
theorem dL_law_325 : decode cL_law 325 = .ok (.iaload, 1) := dk_46 (dk_at dksL_law_9 19 rfl rfl)
theorem dL_law_326 : decode cL_law 326 = .ok (.aload_n 0, 1) := dk_42 (dk_at dksL_law_9 20 rfl rfl)
theorem dL_law_327 : decode cL_law 327 = .ok (.iload 5, 2) := dk_21 5 (dk_at dksL_law_9 21 rfl rfl)
theorem dL_law_329 : decode cL_law 329 = .ok (.iconst 2, 1) := dk_5 (dk_at dksL_law_9 23 rfl rfl)
theorem dL_law_330 : decode cL_law 330 = .ok (.iadd, 1) := dk_96 (dk_at dksL_law_10 0 rfl rfl)
theorem dL_law_331 : decode cL_law 331 = .ok (.iaload, 1) := dk_46 (dk_at dksL_law_10 1 rfl rfl)
theorem dL_law_332 : decode cL_law 332 = .ok (.invokevirtual 117, 3) := dk_182 0 117 (dk_at dksL_law_10 2 rfl rfl)
theorem dL_law_335 : decode cL_law 335 = .ok (.istore 7, 2) := dk_54 7 (dk_at dksL_law_10 5 rfl rfl)
theorem dL_law_337 : decode cL_law 337 = .ok (.aload_n 2, 1) := dk_44 (dk_at dksL_law_10 7 rfl rfl)
theorem dL_law_338 : decode cL_law 338 = .ok (.invokevirtual 107, 3) := dk_182 0 107 (dk_at dksL_law_10 8 rfl rfl)
theorem dL_law_341 : decode cL_law 341 = .ok (.iload 6, 2) := dk_21 6 (dk_at dksL_law_10 11 rfl rfl)
theorem dL_law_343 : decode cL_law 343 = .ok (.if_icmp .eq 5, 3) := dk_159 0 5 (dk_at dksL_law_10 13 rfl rfl)
theorem dL_law_346 : decode cL_law 346 = .ok (.iconst 0, 1) := dk_3 (dk_at dksL_law_10 16 rfl rfl)
theorem dL_law_347 : decode cL_law 347 = .ok (.ireturn, 1) := dk_172 (dk_at dksL_law_10 17 rfl rfl)
theorem dL_law_348 : decode cL_law 348 = .ok (.iload 6, 2) := dk_21 6 (dk_at dksL_law_10 18 rfl rfl)
theorem dL_law_350 : decode cL_law 350 = .ok (.ifCond .ne 15, 3) := dk_154 0 15 (dk_at dksL_law_10 20 rfl rfl)
theorem dL_law_353 : decode cL_law 353 = .ok (.aload_n 3, 1) := dk_45 (dk_at dksL_law_10 23 rfl rfl)
theorem dL_law_354 : decode cL_law 354 = .ok (.iconst 0, 1) := dk_3 (dk_at dksL_law_11 0 rfl rfl)
theorem dL_law_355 : decode cL_law 355 = .ok (.laload, 1) := dk_47 (dk_at dksL_law_11 1 rfl rfl)
theorem dL_law_356 : decode cL_law 356 = .ok (.iload 7, 2) := dk_21 7 (dk_at dksL_law_11 2 rfl rfl)
theorem dL_law_358 : decode cL_law 358 = .ok (.i2l, 1) := dk_133 (dk_at dksL_law_11 4 rfl rfl)
theorem dL_law_359 : decode cL_law 359 = .ok (.lcmp, 1) := dk_148 (dk_at dksL_law_11 5 rfl rfl)
theorem dL_law_360 : decode cL_law 360 = .ok (.ifCond .eq 5, 3) := dk_153 0 5 (dk_at dksL_law_11 6 rfl rfl)
theorem dL_law_363 : decode cL_law 363 = .ok (.iconst 0, 1) := dk_3 (dk_at dksL_law_11 9 rfl rfl)
theorem dL_law_364 : decode cL_law 364 = .ok (.ireturn, 1) := dk_172 (dk_at dksL_law_11 10 rfl rfl)
theorem dL_law_365 : decode cL_law 365 = .ok (.goto 1266, 3) := dk_167 4 242 (dk_at dksL_law_11 11 rfl rfl)
theorem dL_law_368 : decode cL_law 368 = .ok (.aload_n 1, 1) := dk_43 (dk_at dksL_law_11 14 rfl rfl)
theorem dL_law_369 : decode cL_law 369 = .ok (.aload_n 0, 1) := dk_42 (dk_at dksL_law_11 15 rfl rfl)
theorem dL_law_370 : decode cL_law 370 = .ok (.iload 5, 2) := dk_21 5 (dk_at dksL_law_11 16 rfl rfl)
theorem dL_law_372 : decode cL_law 372 = .ok (.iconst 1, 1) := dk_4 (dk_at dksL_law_11 18 rfl rfl)
theorem dL_law_373 : decode cL_law 373 = .ok (.iadd, 1) := dk_96 (dk_at dksL_law_11 19 rfl rfl)
theorem dL_law_374 : decode cL_law 374 = .ok (.iaload, 1) := dk_46 (dk_at dksL_law_11 20 rfl rfl)
theorem dL_law_375 : decode cL_law 375 = .ok (.aload_n 0, 1) := dk_42 (dk_at dksL_law_11 21 rfl rfl)
theorem dL_law_376 : decode cL_law 376 = .ok (.iload 5, 2) := dk_21 5 (dk_at dksL_law_11 22 rfl rfl)
theorem dL_law_378 : decode cL_law 378 = .ok (.iconst 2, 1) := dk_5 (dk_at dksL_law_12 0 rfl rfl)
theorem dL_law_379 : decode cL_law 379 = .ok (.iadd, 1) := dk_96 (dk_at dksL_law_12 1 rfl rfl)
theorem dL_law_380 : decode cL_law 380 = .ok (.iaload, 1) := dk_46 (dk_at dksL_law_12 2 rfl rfl)
theorem dL_law_381 : decode cL_law 381 = .ok (.aload_n 3, 1) := dk_45 (dk_at dksL_law_12 3 rfl rfl)
theorem dL_law_382 : decode cL_law 382 = .ok (.invokestatic 118, 3) := dk_184 0 118 (dk_at dksL_law_12 4 rfl rfl)
theorem dL_law_385 : decode cL_law 385 = .ok (.istore 6, 2) := dk_54 6 (dk_at dksL_law_12 7 rfl rfl)
theorem dL_law_387 : decode cL_law 387 = .ok (.aload_n 2, 1) := dk_44 (dk_at dksL_law_12 9 rfl rfl)
theorem dL_law_388 : decode cL_law 388 = .ok (.aload_n 0, 1) := dk_42 (dk_at dksL_law_12 10 rfl rfl)
theorem dL_law_389 : decode cL_law 389 = .ok (.iload 5, 2) := dk_21 5 (dk_at dksL_law_12 11 rfl rfl)
theorem dL_law_391 : decode cL_law 391 = .ok (.iconst 1, 1) := dk_4 (dk_at dksL_law_12 13 rfl rfl)
theorem dL_law_392 : decode cL_law 392 = .ok (.iadd, 1) := dk_96 (dk_at dksL_law_12 14 rfl rfl)
theorem dL_law_393 : decode cL_law 393 = .ok (.iaload, 1) := dk_46 (dk_at dksL_law_12 15 rfl rfl)
theorem dL_law_394 : decode cL_law 394 = .ok (.aload_n 0, 1) := dk_42 (dk_at dksL_law_12 16 rfl rfl)
theorem dL_law_395 : decode cL_law 395 = .ok (.iload 5, 2) := dk_21 5 (dk_at dksL_law_12 17 rfl rfl)
theorem dL_law_397 : decode cL_law 397 = .ok (.iconst 2, 1) := dk_5 (dk_at dksL_law_12 19 rfl rfl)
theorem dL_law_398 : decode cL_law 398 = .ok (.iadd, 1) := dk_96 (dk_at dksL_law_12 20 rfl rfl)
theorem dL_law_399 : decode cL_law 399 = .ok (.iaload, 1) := dk_46 (dk_at dksL_law_12 21 rfl rfl)
theorem dL_law_400 : decode cL_law 400 = .ok (.invokevirtual 120, 3) := dk_182 0 120 (dk_at dksL_law_13 0 rfl rfl)
theorem dL_law_403 : decode cL_law 403 = .ok (.istore 7, 2) := dk_54 7 (dk_at dksL_law_13 3 rfl rfl)
theorem dL_law_405 : decode cL_law 405 = .ok (.aload_n 2, 1) := dk_44 (dk_at dksL_law_13 5 rfl rfl)
theorem dL_law_406 : decode cL_law 406 = .ok (.invokevirtual 107, 3) := dk_182 0 107 (dk_at dksL_law_13 6 rfl rfl)
theorem dL_law_409 : decode cL_law 409 = .ok (.iload 6, 2) := dk_21 6 (dk_at dksL_law_13 9 rfl rfl)
theorem dL_law_411 : decode cL_law 411 = .ok (.if_icmp .eq 5, 3) := dk_159 0 5 (dk_at dksL_law_13 11 rfl rfl)
theorem dL_law_414 : decode cL_law 414 = .ok (.iconst 0, 1) := dk_3 (dk_at dksL_law_13 14 rfl rfl)
theorem dL_law_415 : decode cL_law 415 = .ok (.ireturn, 1) := dk_172 (dk_at dksL_law_13 15 rfl rfl)
theorem dL_law_416 : decode cL_law 416 = .ok (.iload 6, 2) := dk_21 6 (dk_at dksL_law_13 16 rfl rfl)
theorem dL_law_418 : decode cL_law 418 = .ok (.ifCond .ne 15, 3) := dk_154 0 15 (dk_at dksL_law_13 18 rfl rfl)
theorem dL_law_421 : decode cL_law 421 = .ok (.aload_n 3, 1) := dk_45 (dk_at dksL_law_13 21 rfl rfl)
theorem dL_law_422 : decode cL_law 422 = .ok (.iconst 0, 1) := dk_3 (dk_at dksL_law_13 22 rfl rfl)
theorem dL_law_423 : decode cL_law 423 = .ok (.laload, 1) := dk_47 (dk_at dksL_law_13 23 rfl rfl)
theorem dL_law_424 : decode cL_law 424 = .ok (.iload 7, 2) := dk_21 7 (dk_at dksL_law_14 0 rfl rfl)
theorem dL_law_426 : decode cL_law 426 = .ok (.i2l, 1) := dk_133 (dk_at dksL_law_14 2 rfl rfl)
theorem dL_law_427 : decode cL_law 427 = .ok (.lcmp, 1) := dk_148 (dk_at dksL_law_14 3 rfl rfl)
theorem dL_law_428 : decode cL_law 428 = .ok (.ifCond .eq 5, 3) := dk_153 0 5 (dk_at dksL_law_14 4 rfl rfl)
theorem dL_law_431 : decode cL_law 431 = .ok (.iconst 0, 1) := dk_3 (dk_at dksL_law_14 7 rfl rfl)
theorem dL_law_432 : decode cL_law 432 = .ok (.ireturn, 1) := dk_172 (dk_at dksL_law_14 8 rfl rfl)
theorem dL_law_433 : decode cL_law 433 = .ok (.goto 1198, 3) := dk_167 4 174 (dk_at dksL_law_14 9 rfl rfl)
theorem dL_law_436 : decode cL_law 436 = .ok (.aload_n 1, 1) := dk_43 (dk_at dksL_law_14 12 rfl rfl)
theorem dL_law_437 : decode cL_law 437 = .ok (.aload_n 3, 1) := dk_45 (dk_at dksL_law_14 13 rfl rfl)
theorem dL_law_438 : decode cL_law 438 = .ok (.invokestatic 121, 3) := dk_184 0 121 (dk_at dksL_law_14 14 rfl rfl)
theorem dL_law_441 : decode cL_law 441 = .ok (.istore 6, 2) := dk_54 6 (dk_at dksL_law_14 17 rfl rfl)
theorem dL_law_443 : decode cL_law 443 = .ok (.aload_n 2, 1) := dk_44 (dk_at dksL_law_14 19 rfl rfl)
theorem dL_law_444 : decode cL_law 444 = .ok (.invokevirtual 124, 3) := dk_182 0 124 (dk_at dksL_law_14 20 rfl rfl)
theorem dL_law_447 : decode cL_law 447 = .ok (.istore 7, 2) := dk_54 7 (dk_at dksL_law_15 0 rfl rfl)
theorem dL_law_449 : decode cL_law 449 = .ok (.aload_n 2, 1) := dk_44 (dk_at dksL_law_15 2 rfl rfl)
theorem dL_law_450 : decode cL_law 450 = .ok (.invokevirtual 107, 3) := dk_182 0 107 (dk_at dksL_law_15 3 rfl rfl)
theorem dL_law_453 : decode cL_law 453 = .ok (.iload 6, 2) := dk_21 6 (dk_at dksL_law_15 6 rfl rfl)
theorem dL_law_455 : decode cL_law 455 = .ok (.if_icmp .eq 5, 3) := dk_159 0 5 (dk_at dksL_law_15 8 rfl rfl)
theorem dL_law_458 : decode cL_law 458 = .ok (.iconst 0, 1) := dk_3 (dk_at dksL_law_15 11 rfl rfl)
theorem dL_law_459 : decode cL_law 459 = .ok (.ireturn, 1) := dk_172 (dk_at dksL_law_15 12 rfl rfl)
theorem dL_law_460 : decode cL_law 460 = .ok (.iload 6, 2) := dk_21 6 (dk_at dksL_law_15 13 rfl rfl)
theorem dL_law_462 : decode cL_law 462 = .ok (.ifCond .ne 15, 3) := dk_154 0 15 (dk_at dksL_law_15 15 rfl rfl)
theorem dL_law_465 : decode cL_law 465 = .ok (.aload_n 3, 1) := dk_45 (dk_at dksL_law_15 18 rfl rfl)
theorem dL_law_466 : decode cL_law 466 = .ok (.iconst 0, 1) := dk_3 (dk_at dksL_law_15 19 rfl rfl)
theorem dL_law_467 : decode cL_law 467 = .ok (.laload, 1) := dk_47 (dk_at dksL_law_15 20 rfl rfl)
theorem dL_law_468 : decode cL_law 468 = .ok (.iload 7, 2) := dk_21 7 (dk_at dksL_law_15 21 rfl rfl)
theorem dL_law_470 : decode cL_law 470 = .ok (.i2l, 1) := dk_133 (dk_at dksL_law_15 23 rfl rfl)
theorem dL_law_471 : decode cL_law 471 = .ok (.lcmp, 1) := dk_148 (dk_at dksL_law_16 0 rfl rfl)
theorem dL_law_472 : decode cL_law 472 = .ok (.ifCond .eq 5, 3) := dk_153 0 5 (dk_at dksL_law_16 1 rfl rfl)
theorem dL_law_475 : decode cL_law 475 = .ok (.iconst 0, 1) := dk_3 (dk_at dksL_law_16 4 rfl rfl)
theorem dL_law_476 : decode cL_law 476 = .ok (.ireturn, 1) := dk_172 (dk_at dksL_law_16 5 rfl rfl)
theorem dL_law_477 : decode cL_law 477 = .ok (.goto 1154, 3) := dk_167 4 130 (dk_at dksL_law_16 6 rfl rfl)
theorem dL_law_480 : decode cL_law 480 = .ok (.aload_n 1, 1) := dk_43 (dk_at dksL_law_16 9 rfl rfl)
theorem dL_law_481 : decode cL_law 481 = .ok (.invokevirtual 125, 3) := dk_182 0 125 (dk_at dksL_law_16 10 rfl rfl)
theorem dL_law_484 : decode cL_law 484 = .ok (.aload_n 2, 1) := dk_44 (dk_at dksL_law_16 13 rfl rfl)
theorem dL_law_485 : decode cL_law 485 = .ok (.invokevirtual 129, 3) := dk_182 0 129 (dk_at dksL_law_16 14 rfl rfl)
theorem dL_law_488 : decode cL_law 488 = .ok (.if_icmp .eq 1143, 3) := dk_159 4 119 (dk_at dksL_law_16 17 rfl rfl)
theorem dL_law_491 : decode cL_law 491 = .ok (.iconst 0, 1) := dk_3 (dk_at dksL_law_16 20 rfl rfl)
theorem dL_law_492 : decode cL_law 492 = .ok (.ireturn, 1) := dk_172 (dk_at dksL_law_16 21 rfl rfl)
theorem dL_law_493 : decode cL_law 493 = .ok (.aload_n 1, 1) := dk_43 (dk_at dksL_law_16 22 rfl rfl)
theorem dL_law_494 : decode cL_law 494 = .ok (.aload_n 0, 1) := dk_42 (dk_at dksL_law_16 23 rfl rfl)
theorem dL_law_495 : decode cL_law 495 = .ok (.iload 5, 2) := dk_21 5 (dk_at dksL_law_17 0 rfl rfl)
theorem dL_law_497 : decode cL_law 497 = .ok (.iconst 1, 1) := dk_4 (dk_at dksL_law_17 2 rfl rfl)
theorem dL_law_498 : decode cL_law 498 = .ok (.iadd, 1) := dk_96 (dk_at dksL_law_17 3 rfl rfl)
theorem dL_law_499 : decode cL_law 499 = .ok (.iaload, 1) := dk_46 (dk_at dksL_law_17 4 rfl rfl)
theorem dL_law_500 : decode cL_law 500 = .ok (.aload_n 0, 1) := dk_42 (dk_at dksL_law_17 5 rfl rfl)
theorem dL_law_501 : decode cL_law 501 = .ok (.iload 5, 2) := dk_21 5 (dk_at dksL_law_17 6 rfl rfl)
theorem dL_law_503 : decode cL_law 503 = .ok (.iconst 2, 1) := dk_5 (dk_at dksL_law_17 8 rfl rfl)
theorem dL_law_504 : decode cL_law 504 = .ok (.iadd, 1) := dk_96 (dk_at dksL_law_17 9 rfl rfl)
theorem dL_law_505 : decode cL_law 505 = .ok (.iaload, 1) := dk_46 (dk_at dksL_law_17 10 rfl rfl)
theorem dL_law_506 : decode cL_law 506 = .ok (.aload_n 3, 1) := dk_45 (dk_at dksL_law_17 11 rfl rfl)
theorem dL_law_507 : decode cL_law 507 = .ok (.invokestatic 130, 3) := dk_184 0 130 (dk_at dksL_law_17 12 rfl rfl)
theorem dL_law_510 : decode cL_law 510 = .ok (.istore 6, 2) := dk_54 6 (dk_at dksL_law_17 15 rfl rfl)
theorem dL_law_512 : decode cL_law 512 = .ok (.aload_n 2, 1) := dk_44 (dk_at dksL_law_17 17 rfl rfl)
theorem dL_law_513 : decode cL_law 513 = .ok (.aload_n 0, 1) := dk_42 (dk_at dksL_law_17 18 rfl rfl)
theorem dL_law_514 : decode cL_law 514 = .ok (.iload 5, 2) := dk_21 5 (dk_at dksL_law_17 19 rfl rfl)
theorem dL_law_516 : decode cL_law 516 = .ok (.iconst 1, 1) := dk_4 (dk_at dksL_law_17 21 rfl rfl)
theorem dL_law_517 : decode cL_law 517 = .ok (.iadd, 1) := dk_96 (dk_at dksL_law_17 22 rfl rfl)
theorem dL_law_518 : decode cL_law 518 = .ok (.iaload, 1) := dk_46 (dk_at dksL_law_17 23 rfl rfl)
theorem dL_law_519 : decode cL_law 519 = .ok (.aload_n 0, 1) := dk_42 (dk_at dksL_law_18 0 rfl rfl)
theorem dL_law_520 : decode cL_law 520 = .ok (.iload 5, 2) := dk_21 5 (dk_at dksL_law_18 1 rfl rfl)
theorem dL_law_522 : decode cL_law 522 = .ok (.iconst 2, 1) := dk_5 (dk_at dksL_law_18 3 rfl rfl)
theorem dL_law_523 : decode cL_law 523 = .ok (.iadd, 1) := dk_96 (dk_at dksL_law_18 4 rfl rfl)
theorem dL_law_524 : decode cL_law 524 = .ok (.iaload, 1) := dk_46 (dk_at dksL_law_18 5 rfl rfl)
theorem dL_law_525 : decode cL_law 525 = .ok (.invokevirtual 132, 3) := dk_182 0 132 (dk_at dksL_law_18 6 rfl rfl)
theorem dL_law_528 : decode cL_law 528 = .ok (.istore 7, 2) := dk_54 7 (dk_at dksL_law_18 9 rfl rfl)
theorem dL_law_530 : decode cL_law 530 = .ok (.aload_n 2, 1) := dk_44 (dk_at dksL_law_18 11 rfl rfl)
theorem dL_law_531 : decode cL_law 531 = .ok (.invokevirtual 107, 3) := dk_182 0 107 (dk_at dksL_law_18 12 rfl rfl)
theorem dL_law_534 : decode cL_law 534 = .ok (.iload 6, 2) := dk_21 6 (dk_at dksL_law_18 15 rfl rfl)
theorem dL_law_536 : decode cL_law 536 = .ok (.if_icmp .eq 5, 3) := dk_159 0 5 (dk_at dksL_law_18 17 rfl rfl)
theorem dL_law_539 : decode cL_law 539 = .ok (.iconst 0, 1) := dk_3 (dk_at dksL_law_18 20 rfl rfl)
theorem dL_law_540 : decode cL_law 540 = .ok (.ireturn, 1) := dk_172 (dk_at dksL_law_18 21 rfl rfl)
theorem dL_law_541 : decode cL_law 541 = .ok (.iload 6, 2) := dk_21 6 (dk_at dksL_law_18 22 rfl rfl)
theorem dL_law_543 : decode cL_law 543 = .ok (.ifCond .ne 15, 3) := dk_154 0 15 (dk_at dksL_law_19 0 rfl rfl)
theorem dL_law_546 : decode cL_law 546 = .ok (.aload_n 3, 1) := dk_45 (dk_at dksL_law_19 3 rfl rfl)
theorem dL_law_547 : decode cL_law 547 = .ok (.iconst 0, 1) := dk_3 (dk_at dksL_law_19 4 rfl rfl)
theorem dL_law_548 : decode cL_law 548 = .ok (.laload, 1) := dk_47 (dk_at dksL_law_19 5 rfl rfl)
theorem dL_law_549 : decode cL_law 549 = .ok (.iload 7, 2) := dk_21 7 (dk_at dksL_law_19 6 rfl rfl)
theorem dL_law_551 : decode cL_law 551 = .ok (.i2l, 1) := dk_133 (dk_at dksL_law_19 8 rfl rfl)
theorem dL_law_552 : decode cL_law 552 = .ok (.lcmp, 1) := dk_148 (dk_at dksL_law_19 9 rfl rfl)
theorem dL_law_553 : decode cL_law 553 = .ok (.ifCond .eq 5, 3) := dk_153 0 5 (dk_at dksL_law_19 10 rfl rfl)
theorem dL_law_556 : decode cL_law 556 = .ok (.iconst 0, 1) := dk_3 (dk_at dksL_law_19 13 rfl rfl)
theorem dL_law_557 : decode cL_law 557 = .ok (.ireturn, 1) := dk_172 (dk_at dksL_law_19 14 rfl rfl)
theorem dL_law_558 : decode cL_law 558 = .ok (.goto 1073, 3) := dk_167 4 49 (dk_at dksL_law_19 15 rfl rfl)
theorem dL_law_561 : decode cL_law 561 = .ok (.aload_n 1, 1) := dk_43 (dk_at dksL_law_19 18 rfl rfl)
theorem dL_law_562 : decode cL_law 562 = .ok (.aload_n 0, 1) := dk_42 (dk_at dksL_law_19 19 rfl rfl)
theorem dL_law_563 : decode cL_law 563 = .ok (.iload 5, 2) := dk_21 5 (dk_at dksL_law_19 20 rfl rfl)
theorem dL_law_565 : decode cL_law 565 = .ok (.iconst 1, 1) := dk_4 (dk_at dksL_law_19 22 rfl rfl)
theorem dL_law_566 : decode cL_law 566 = .ok (.iadd, 1) := dk_96 (dk_at dksL_law_19 23 rfl rfl)
theorem dL_law_567 : decode cL_law 567 = .ok (.iaload, 1) := dk_46 (dk_at dksL_law_20 0 rfl rfl)
theorem dL_law_568 : decode cL_law 568 = .ok (.aload_n 0, 1) := dk_42 (dk_at dksL_law_20 1 rfl rfl)
theorem dL_law_569 : decode cL_law 569 = .ok (.iload 5, 2) := dk_21 5 (dk_at dksL_law_20 2 rfl rfl)
theorem dL_law_571 : decode cL_law 571 = .ok (.iconst 2, 1) := dk_5 (dk_at dksL_law_20 4 rfl rfl)
theorem dL_law_572 : decode cL_law 572 = .ok (.iadd, 1) := dk_96 (dk_at dksL_law_20 5 rfl rfl)
theorem dL_law_573 : decode cL_law 573 = .ok (.iaload, 1) := dk_46 (dk_at dksL_law_20 6 rfl rfl)
theorem dL_law_574 : decode cL_law 574 = .ok (.aload_n 3, 1) := dk_45 (dk_at dksL_law_20 7 rfl rfl)
theorem dL_law_575 : decode cL_law 575 = .ok (.invokestatic 133, 3) := dk_184 0 133 (dk_at dksL_law_20 8 rfl rfl)
theorem dL_law_578 : decode cL_law 578 = .ok (.istore 6, 2) := dk_54 6 (dk_at dksL_law_20 11 rfl rfl)
theorem dL_law_580 : decode cL_law 580 = .ok (.aload_n 2, 1) := dk_44 (dk_at dksL_law_20 13 rfl rfl)
theorem dL_law_581 : decode cL_law 581 = .ok (.aload_n 0, 1) := dk_42 (dk_at dksL_law_20 14 rfl rfl)
theorem dL_law_582 : decode cL_law 582 = .ok (.iload 5, 2) := dk_21 5 (dk_at dksL_law_20 15 rfl rfl)
theorem dL_law_584 : decode cL_law 584 = .ok (.iconst 1, 1) := dk_4 (dk_at dksL_law_20 17 rfl rfl)
theorem dL_law_585 : decode cL_law 585 = .ok (.iadd, 1) := dk_96 (dk_at dksL_law_20 18 rfl rfl)
theorem dL_law_586 : decode cL_law 586 = .ok (.iaload, 1) := dk_46 (dk_at dksL_law_20 19 rfl rfl)
theorem dL_law_587 : decode cL_law 587 = .ok (.aload_n 0, 1) := dk_42 (dk_at dksL_law_20 20 rfl rfl)
theorem dL_law_588 : decode cL_law 588 = .ok (.iload 5, 2) := dk_21 5 (dk_at dksL_law_20 21 rfl rfl)
theorem dL_law_590 : decode cL_law 590 = .ok (.iconst 2, 1) := dk_5 (dk_at dksL_law_20 23 rfl rfl)
theorem dL_law_591 : decode cL_law 591 = .ok (.iadd, 1) := dk_96 (dk_at dksL_law_21 0 rfl rfl)
theorem dL_law_592 : decode cL_law 592 = .ok (.iaload, 1) := dk_46 (dk_at dksL_law_21 1 rfl rfl)
theorem dL_law_593 : decode cL_law 593 = .ok (.invokevirtual 135, 3) := dk_182 0 135 (dk_at dksL_law_21 2 rfl rfl)
theorem dL_law_596 : decode cL_law 596 = .ok (.istore 7, 2) := dk_54 7 (dk_at dksL_law_21 5 rfl rfl)
theorem dL_law_598 : decode cL_law 598 = .ok (.aload_n 2, 1) := dk_44 (dk_at dksL_law_21 7 rfl rfl)
theorem dL_law_599 : decode cL_law 599 = .ok (.invokevirtual 107, 3) := dk_182 0 107 (dk_at dksL_law_21 8 rfl rfl)
theorem dL_law_602 : decode cL_law 602 = .ok (.iload 6, 2) := dk_21 6 (dk_at dksL_law_21 11 rfl rfl)
theorem dL_law_604 : decode cL_law 604 = .ok (.if_icmp .eq 5, 3) := dk_159 0 5 (dk_at dksL_law_21 13 rfl rfl)
theorem dL_law_607 : decode cL_law 607 = .ok (.iconst 0, 1) := dk_3 (dk_at dksL_law_21 16 rfl rfl)
theorem dL_law_608 : decode cL_law 608 = .ok (.ireturn, 1) := dk_172 (dk_at dksL_law_21 17 rfl rfl)
theorem dL_law_609 : decode cL_law 609 = .ok (.iload 6, 2) := dk_21 6 (dk_at dksL_law_21 18 rfl rfl)
theorem dL_law_611 : decode cL_law 611 = .ok (.ifCond .ne 15, 3) := dk_154 0 15 (dk_at dksL_law_21 20 rfl rfl)
theorem dL_law_614 : decode cL_law 614 = .ok (.aload_n 3, 1) := dk_45 (dk_at dksL_law_21 23 rfl rfl)
theorem dL_law_615 : decode cL_law 615 = .ok (.iconst 0, 1) := dk_3 (dk_at dksL_law_22 0 rfl rfl)
theorem dL_law_616 : decode cL_law 616 = .ok (.laload, 1) := dk_47 (dk_at dksL_law_22 1 rfl rfl)
theorem dL_law_617 : decode cL_law 617 = .ok (.iload 7, 2) := dk_21 7 (dk_at dksL_law_22 2 rfl rfl)
theorem dL_law_619 : decode cL_law 619 = .ok (.i2l, 1) := dk_133 (dk_at dksL_law_22 4 rfl rfl)
theorem dL_law_620 : decode cL_law 620 = .ok (.lcmp, 1) := dk_148 (dk_at dksL_law_22 5 rfl rfl)
theorem dL_law_621 : decode cL_law 621 = .ok (.ifCond .eq 5, 3) := dk_153 0 5 (dk_at dksL_law_22 6 rfl rfl)
theorem dL_law_624 : decode cL_law 624 = .ok (.iconst 0, 1) := dk_3 (dk_at dksL_law_22 9 rfl rfl)
theorem dL_law_625 : decode cL_law 625 = .ok (.ireturn, 1) := dk_172 (dk_at dksL_law_22 10 rfl rfl)
theorem dL_law_626 : decode cL_law 626 = .ok (.goto 1005, 3) := dk_167 3 237 (dk_at dksL_law_22 11 rfl rfl)
theorem dL_law_629 : decode cL_law 629 = .ok (.aload_n 1, 1) := dk_43 (dk_at dksL_law_22 14 rfl rfl)
theorem dL_law_630 : decode cL_law 630 = .ok (.aload_n 0, 1) := dk_42 (dk_at dksL_law_22 15 rfl rfl)
theorem dL_law_631 : decode cL_law 631 = .ok (.iload 5, 2) := dk_21 5 (dk_at dksL_law_22 16 rfl rfl)
theorem dL_law_633 : decode cL_law 633 = .ok (.iconst 1, 1) := dk_4 (dk_at dksL_law_22 18 rfl rfl)
theorem dL_law_634 : decode cL_law 634 = .ok (.iadd, 1) := dk_96 (dk_at dksL_law_22 19 rfl rfl)
theorem dL_law_635 : decode cL_law 635 = .ok (.iaload, 1) := dk_46 (dk_at dksL_law_22 20 rfl rfl)
theorem dL_law_636 : decode cL_law 636 = .ok (.aload_n 3, 1) := dk_45 (dk_at dksL_law_22 21 rfl rfl)
theorem dL_law_637 : decode cL_law 637 = .ok (.invokestatic 136, 3) := dk_184 0 136 (dk_at dksL_law_23 0 rfl rfl)
theorem dL_law_640 : decode cL_law 640 = .ok (.istore 6, 2) := dk_54 6 (dk_at dksL_law_23 3 rfl rfl)
theorem dL_law_642 : decode cL_law 642 = .ok (.aload_n 2, 1) := dk_44 (dk_at dksL_law_23 5 rfl rfl)
theorem dL_law_643 : decode cL_law 643 = .ok (.aload_n 0, 1) := dk_42 (dk_at dksL_law_23 6 rfl rfl)
theorem dL_law_644 : decode cL_law 644 = .ok (.iload 5, 2) := dk_21 5 (dk_at dksL_law_23 7 rfl rfl)
theorem dL_law_646 : decode cL_law 646 = .ok (.iconst 1, 1) := dk_4 (dk_at dksL_law_23 9 rfl rfl)
theorem dL_law_647 : decode cL_law 647 = .ok (.iadd, 1) := dk_96 (dk_at dksL_law_23 10 rfl rfl)
theorem dL_law_648 : decode cL_law 648 = .ok (.iaload, 1) := dk_46 (dk_at dksL_law_23 11 rfl rfl)
theorem dL_law_649 : decode cL_law 649 = .ok (.invokevirtual 138, 3) := dk_182 0 138 (dk_at dksL_law_23 12 rfl rfl)
theorem dL_law_652 : decode cL_law 652 = .ok (.istore 7, 2) := dk_54 7 (dk_at dksL_law_23 15 rfl rfl)
theorem dL_law_654 : decode cL_law 654 = .ok (.aload_n 2, 1) := dk_44 (dk_at dksL_law_23 17 rfl rfl)
theorem dL_law_655 : decode cL_law 655 = .ok (.invokevirtual 107, 3) := dk_182 0 107 (dk_at dksL_law_23 18 rfl rfl)
theorem dL_law_658 : decode cL_law 658 = .ok (.iload 6, 2) := dk_21 6 (dk_at dksL_law_23 21 rfl rfl)
theorem dL_law_660 : decode cL_law 660 = .ok (.if_icmp .eq 5, 3) := dk_159 0 5 (dk_at dksL_law_24 0 rfl rfl)
theorem dL_law_663 : decode cL_law 663 = .ok (.iconst 0, 1) := dk_3 (dk_at dksL_law_24 3 rfl rfl)
theorem dL_law_664 : decode cL_law 664 = .ok (.ireturn, 1) := dk_172 (dk_at dksL_law_24 4 rfl rfl)
theorem dL_law_665 : decode cL_law 665 = .ok (.iload 6, 2) := dk_21 6 (dk_at dksL_law_24 5 rfl rfl)
theorem dL_law_667 : decode cL_law 667 = .ok (.ifCond .ne 15, 3) := dk_154 0 15 (dk_at dksL_law_24 7 rfl rfl)
theorem dL_law_670 : decode cL_law 670 = .ok (.aload_n 3, 1) := dk_45 (dk_at dksL_law_24 10 rfl rfl)
theorem dL_law_671 : decode cL_law 671 = .ok (.iconst 0, 1) := dk_3 (dk_at dksL_law_24 11 rfl rfl)
theorem dL_law_672 : decode cL_law 672 = .ok (.laload, 1) := dk_47 (dk_at dksL_law_24 12 rfl rfl)
theorem dL_law_673 : decode cL_law 673 = .ok (.iload 7, 2) := dk_21 7 (dk_at dksL_law_24 13 rfl rfl)
theorem dL_law_675 : decode cL_law 675 = .ok (.i2l, 1) := dk_133 (dk_at dksL_law_24 15 rfl rfl)
theorem dL_law_676 : decode cL_law 676 = .ok (.lcmp, 1) := dk_148 (dk_at dksL_law_24 16 rfl rfl)
theorem dL_law_677 : decode cL_law 677 = .ok (.ifCond .eq 5, 3) := dk_153 0 5 (dk_at dksL_law_24 17 rfl rfl)
theorem dL_law_680 : decode cL_law 680 = .ok (.iconst 0, 1) := dk_3 (dk_at dksL_law_24 20 rfl rfl)
theorem dL_law_681 : decode cL_law 681 = .ok (.ireturn, 1) := dk_172 (dk_at dksL_law_24 21 rfl rfl)
theorem dL_law_682 : decode cL_law 682 = .ok (.goto 949, 3) := dk_167 3 181 (dk_at dksL_law_25 0 rfl rfl)
theorem dL_law_685 : decode cL_law 685 = .ok (.aload_n 1, 1) := dk_43 (dk_at dksL_law_25 3 rfl rfl)
theorem dL_law_686 : decode cL_law 686 = .ok (.aload_n 0, 1) := dk_42 (dk_at dksL_law_25 4 rfl rfl)
theorem dL_law_687 : decode cL_law 687 = .ok (.iload 5, 2) := dk_21 5 (dk_at dksL_law_25 5 rfl rfl)
theorem dL_law_689 : decode cL_law 689 = .ok (.iconst 1, 1) := dk_4 (dk_at dksL_law_25 7 rfl rfl)
theorem dL_law_690 : decode cL_law 690 = .ok (.iadd, 1) := dk_96 (dk_at dksL_law_25 8 rfl rfl)
theorem dL_law_691 : decode cL_law 691 = .ok (.iaload, 1) := dk_46 (dk_at dksL_law_25 9 rfl rfl)
theorem dL_law_692 : decode cL_law 692 = .ok (.aload_n 0, 1) := dk_42 (dk_at dksL_law_25 10 rfl rfl)
theorem dL_law_693 : decode cL_law 693 = .ok (.iload 5, 2) := dk_21 5 (dk_at dksL_law_25 11 rfl rfl)
theorem dL_law_695 : decode cL_law 695 = .ok (.iconst 2, 1) := dk_5 (dk_at dksL_law_25 13 rfl rfl)
theorem dL_law_696 : decode cL_law 696 = .ok (.iadd, 1) := dk_96 (dk_at dksL_law_25 14 rfl rfl)
theorem dL_law_697 : decode cL_law 697 = .ok (.iaload, 1) := dk_46 (dk_at dksL_law_25 15 rfl rfl)
theorem dL_law_698 : decode cL_law 698 = .ok (.aload_n 3, 1) := dk_45 (dk_at dksL_law_25 16 rfl rfl)
theorem dL_law_699 : decode cL_law 699 = .ok (.invokestatic 139, 3) := dk_184 0 139 (dk_at dksL_law_25 17 rfl rfl)
theorem dL_law_702 : decode cL_law 702 = .ok (.istore 6, 2) := dk_54 6 (dk_at dksL_law_25 20 rfl rfl)
theorem dL_law_704 : decode cL_law 704 = .ok (.aload_n 2, 1) := dk_44 (dk_at dksL_law_25 22 rfl rfl)
theorem dL_law_705 : decode cL_law 705 = .ok (.aload_n 0, 1) := dk_42 (dk_at dksL_law_25 23 rfl rfl)
theorem dL_law_706 : decode cL_law 706 = .ok (.iload 5, 2) := dk_21 5 (dk_at dksL_law_26 0 rfl rfl)
theorem dL_law_708 : decode cL_law 708 = .ok (.iconst 1, 1) := dk_4 (dk_at dksL_law_26 2 rfl rfl)
theorem dL_law_709 : decode cL_law 709 = .ok (.iadd, 1) := dk_96 (dk_at dksL_law_26 3 rfl rfl)
theorem dL_law_710 : decode cL_law 710 = .ok (.iaload, 1) := dk_46 (dk_at dksL_law_26 4 rfl rfl)
theorem dL_law_711 : decode cL_law 711 = .ok (.aload_n 0, 1) := dk_42 (dk_at dksL_law_26 5 rfl rfl)
theorem dL_law_712 : decode cL_law 712 = .ok (.iload 5, 2) := dk_21 5 (dk_at dksL_law_26 6 rfl rfl)
theorem dL_law_714 : decode cL_law 714 = .ok (.iconst 2, 1) := dk_5 (dk_at dksL_law_26 8 rfl rfl)
theorem dL_law_715 : decode cL_law 715 = .ok (.iadd, 1) := dk_96 (dk_at dksL_law_26 9 rfl rfl)
theorem dL_law_716 : decode cL_law 716 = .ok (.iaload, 1) := dk_46 (dk_at dksL_law_26 10 rfl rfl)
theorem dL_law_717 : decode cL_law 717 = .ok (.invokevirtual 141, 3) := dk_182 0 141 (dk_at dksL_law_26 11 rfl rfl)
theorem dL_law_720 : decode cL_law 720 = .ok (.istore 7, 2) := dk_54 7 (dk_at dksL_law_26 14 rfl rfl)
theorem dL_law_722 : decode cL_law 722 = .ok (.aload_n 2, 1) := dk_44 (dk_at dksL_law_26 16 rfl rfl)
theorem dL_law_723 : decode cL_law 723 = .ok (.invokevirtual 107, 3) := dk_182 0 107 (dk_at dksL_law_26 17 rfl rfl)
theorem dL_law_726 : decode cL_law 726 = .ok (.iload 6, 2) := dk_21 6 (dk_at dksL_law_26 20 rfl rfl)
theorem dL_law_728 : decode cL_law 728 = .ok (.if_icmp .eq 5, 3) := dk_159 0 5 (dk_at dksL_law_27 0 rfl rfl)
theorem dL_law_731 : decode cL_law 731 = .ok (.iconst 0, 1) := dk_3 (dk_at dksL_law_27 3 rfl rfl)
theorem dL_law_732 : decode cL_law 732 = .ok (.ireturn, 1) := dk_172 (dk_at dksL_law_27 4 rfl rfl)
theorem dL_law_733 : decode cL_law 733 = .ok (.iload 6, 2) := dk_21 6 (dk_at dksL_law_27 5 rfl rfl)
theorem dL_law_735 : decode cL_law 735 = .ok (.ifCond .ne 15, 3) := dk_154 0 15 (dk_at dksL_law_27 7 rfl rfl)
theorem dL_law_738 : decode cL_law 738 = .ok (.aload_n 3, 1) := dk_45 (dk_at dksL_law_27 10 rfl rfl)
theorem dL_law_739 : decode cL_law 739 = .ok (.iconst 0, 1) := dk_3 (dk_at dksL_law_27 11 rfl rfl)
theorem dL_law_740 : decode cL_law 740 = .ok (.laload, 1) := dk_47 (dk_at dksL_law_27 12 rfl rfl)
theorem dL_law_741 : decode cL_law 741 = .ok (.iload 7, 2) := dk_21 7 (dk_at dksL_law_27 13 rfl rfl)
theorem dL_law_743 : decode cL_law 743 = .ok (.i2l, 1) := dk_133 (dk_at dksL_law_27 15 rfl rfl)
theorem dL_law_744 : decode cL_law 744 = .ok (.lcmp, 1) := dk_148 (dk_at dksL_law_27 16 rfl rfl)
theorem dL_law_745 : decode cL_law 745 = .ok (.ifCond .eq 5, 3) := dk_153 0 5 (dk_at dksL_law_27 17 rfl rfl)
theorem dL_law_748 : decode cL_law 748 = .ok (.iconst 0, 1) := dk_3 (dk_at dksL_law_27 20 rfl rfl)
theorem dL_law_749 : decode cL_law 749 = .ok (.ireturn, 1) := dk_172 (dk_at dksL_law_27 21 rfl rfl)
theorem dL_law_750 : decode cL_law 750 = .ok (.goto 881, 3) := dk_167 3 113 (dk_at dksL_law_28 0 rfl rfl)
theorem dL_law_753 : decode cL_law 753 = .ok (.aload_n 1, 1) := dk_43 (dk_at dksL_law_28 3 rfl rfl)
theorem dL_law_754 : decode cL_law 754 = .ok (.aload_n 0, 1) := dk_42 (dk_at dksL_law_28 4 rfl rfl)
theorem dL_law_755 : decode cL_law 755 = .ok (.iload 5, 2) := dk_21 5 (dk_at dksL_law_28 5 rfl rfl)
theorem dL_law_757 : decode cL_law 757 = .ok (.iconst 1, 1) := dk_4 (dk_at dksL_law_28 7 rfl rfl)
theorem dL_law_758 : decode cL_law 758 = .ok (.iadd, 1) := dk_96 (dk_at dksL_law_28 8 rfl rfl)
theorem dL_law_759 : decode cL_law 759 = .ok (.iaload, 1) := dk_46 (dk_at dksL_law_28 9 rfl rfl)
theorem dL_law_760 : decode cL_law 760 = .ok (.aload_n 0, 1) := dk_42 (dk_at dksL_law_28 10 rfl rfl)
theorem dL_law_761 : decode cL_law 761 = .ok (.iload 5, 2) := dk_21 5 (dk_at dksL_law_28 11 rfl rfl)
theorem dL_law_763 : decode cL_law 763 = .ok (.iconst 2, 1) := dk_5 (dk_at dksL_law_28 13 rfl rfl)
theorem dL_law_764 : decode cL_law 764 = .ok (.iadd, 1) := dk_96 (dk_at dksL_law_28 14 rfl rfl)
theorem dL_law_765 : decode cL_law 765 = .ok (.iaload, 1) := dk_46 (dk_at dksL_law_28 15 rfl rfl)
theorem dL_law_766 : decode cL_law 766 = .ok (.aload_n 3, 1) := dk_45 (dk_at dksL_law_28 16 rfl rfl)
theorem dL_law_767 : decode cL_law 767 = .ok (.invokestatic 142, 3) := dk_184 0 142 (dk_at dksL_law_28 17 rfl rfl)
theorem dL_law_770 : decode cL_law 770 = .ok (.istore 6, 2) := dk_54 6 (dk_at dksL_law_28 20 rfl rfl)
theorem dL_law_772 : decode cL_law 772 = .ok (.aload_n 2, 1) := dk_44 (dk_at dksL_law_28 22 rfl rfl)
theorem dL_law_773 : decode cL_law 773 = .ok (.aload_n 0, 1) := dk_42 (dk_at dksL_law_28 23 rfl rfl)
theorem dL_law_774 : decode cL_law 774 = .ok (.iload 5, 2) := dk_21 5 (dk_at dksL_law_29 0 rfl rfl)
theorem dL_law_776 : decode cL_law 776 = .ok (.iconst 1, 1) := dk_4 (dk_at dksL_law_29 2 rfl rfl)
theorem dL_law_777 : decode cL_law 777 = .ok (.iadd, 1) := dk_96 (dk_at dksL_law_29 3 rfl rfl)
theorem dL_law_778 : decode cL_law 778 = .ok (.iaload, 1) := dk_46 (dk_at dksL_law_29 4 rfl rfl)
theorem dL_law_779 : decode cL_law 779 = .ok (.aload_n 0, 1) := dk_42 (dk_at dksL_law_29 5 rfl rfl)
theorem dL_law_780 : decode cL_law 780 = .ok (.iload 5, 2) := dk_21 5 (dk_at dksL_law_29 6 rfl rfl)
theorem dL_law_782 : decode cL_law 782 = .ok (.iconst 2, 1) := dk_5 (dk_at dksL_law_29 8 rfl rfl)
theorem dL_law_783 : decode cL_law 783 = .ok (.iadd, 1) := dk_96 (dk_at dksL_law_29 9 rfl rfl)
theorem dL_law_784 : decode cL_law 784 = .ok (.iaload, 1) := dk_46 (dk_at dksL_law_29 10 rfl rfl)
theorem dL_law_785 : decode cL_law 785 = .ok (.invokevirtual 144, 3) := dk_182 0 144 (dk_at dksL_law_29 11 rfl rfl)
theorem dL_law_788 : decode cL_law 788 = .ok (.lstore 7, 2) := dk_55 7 (dk_at dksL_law_29 14 rfl rfl)
theorem dL_law_790 : decode cL_law 790 = .ok (.aload_n 2, 1) := dk_44 (dk_at dksL_law_29 16 rfl rfl)
theorem dL_law_791 : decode cL_law 791 = .ok (.invokevirtual 107, 3) := dk_182 0 107 (dk_at dksL_law_29 17 rfl rfl)
theorem dL_law_794 : decode cL_law 794 = .ok (.iload 6, 2) := dk_21 6 (dk_at dksL_law_29 20 rfl rfl)
theorem dL_law_796 : decode cL_law 796 = .ok (.if_icmp .eq 5, 3) := dk_159 0 5 (dk_at dksL_law_30 0 rfl rfl)
theorem dL_law_799 : decode cL_law 799 = .ok (.iconst 0, 1) := dk_3 (dk_at dksL_law_30 3 rfl rfl)
theorem dL_law_800 : decode cL_law 800 = .ok (.ireturn, 1) := dk_172 (dk_at dksL_law_30 4 rfl rfl)
theorem dL_law_801 : decode cL_law 801 = .ok (.iload 6, 2) := dk_21 6 (dk_at dksL_law_30 5 rfl rfl)
theorem dL_law_803 : decode cL_law 803 = .ok (.ifCond .ne 14, 3) := dk_154 0 14 (dk_at dksL_law_30 7 rfl rfl)
theorem dL_law_806 : decode cL_law 806 = .ok (.aload_n 3, 1) := dk_45 (dk_at dksL_law_30 10 rfl rfl)
theorem dL_law_807 : decode cL_law 807 = .ok (.iconst 0, 1) := dk_3 (dk_at dksL_law_30 11 rfl rfl)
theorem dL_law_808 : decode cL_law 808 = .ok (.laload, 1) := dk_47 (dk_at dksL_law_30 12 rfl rfl)
theorem dL_law_809 : decode cL_law 809 = .ok (.lload 7, 2) := dk_22 7 (dk_at dksL_law_30 13 rfl rfl)
theorem dL_law_811 : decode cL_law 811 = .ok (.lcmp, 1) := dk_148 (dk_at dksL_law_30 15 rfl rfl)
theorem dL_law_812 : decode cL_law 812 = .ok (.ifCond .eq 5, 3) := dk_153 0 5 (dk_at dksL_law_30 16 rfl rfl)
theorem dL_law_815 : decode cL_law 815 = .ok (.iconst 0, 1) := dk_3 (dk_at dksL_law_30 19 rfl rfl)
theorem dL_law_816 : decode cL_law 816 = .ok (.ireturn, 1) := dk_172 (dk_at dksL_law_30 20 rfl rfl)
theorem dL_law_817 : decode cL_law 817 = .ok (.goto 814, 3) := dk_167 3 46 (dk_at dksL_law_30 21 rfl rfl)
theorem dL_law_820 : decode cL_law 820 = .ok (.aload_n 1, 1) := dk_43 (dk_at dksL_law_31 0 rfl rfl)
theorem dL_law_821 : decode cL_law 821 = .ok (.aload_n 0, 1) := dk_42 (dk_at dksL_law_31 1 rfl rfl)
theorem dL_law_822 : decode cL_law 822 = .ok (.iload 5, 2) := dk_21 5 (dk_at dksL_law_31 2 rfl rfl)
theorem dL_law_824 : decode cL_law 824 = .ok (.iconst 1, 1) := dk_4 (dk_at dksL_law_31 4 rfl rfl)
theorem dL_law_825 : decode cL_law 825 = .ok (.iadd, 1) := dk_96 (dk_at dksL_law_31 5 rfl rfl)
theorem dL_law_826 : decode cL_law 826 = .ok (.iaload, 1) := dk_46 (dk_at dksL_law_31 6 rfl rfl)
theorem dL_law_827 : decode cL_law 827 = .ok (.aload_n 3, 1) := dk_45 (dk_at dksL_law_31 7 rfl rfl)
theorem dL_law_828 : decode cL_law 828 = .ok (.invokestatic 145, 3) := dk_184 0 145 (dk_at dksL_law_31 8 rfl rfl)
theorem dL_law_831 : decode cL_law 831 = .ok (.istore 6, 2) := dk_54 6 (dk_at dksL_law_31 11 rfl rfl)
theorem dL_law_833 : decode cL_law 833 = .ok (.aload_n 2, 1) := dk_44 (dk_at dksL_law_31 13 rfl rfl)
theorem dL_law_834 : decode cL_law 834 = .ok (.aload_n 0, 1) := dk_42 (dk_at dksL_law_31 14 rfl rfl)
theorem dL_law_835 : decode cL_law 835 = .ok (.iload 5, 2) := dk_21 5 (dk_at dksL_law_31 15 rfl rfl)
theorem dL_law_837 : decode cL_law 837 = .ok (.iconst 1, 1) := dk_4 (dk_at dksL_law_31 17 rfl rfl)
theorem dL_law_838 : decode cL_law 838 = .ok (.iadd, 1) := dk_96 (dk_at dksL_law_31 18 rfl rfl)
theorem dL_law_839 : decode cL_law 839 = .ok (.iaload, 1) := dk_46 (dk_at dksL_law_31 19 rfl rfl)
theorem dL_law_840 : decode cL_law 840 = .ok (.invokevirtual 147, 3) := dk_182 0 147 (dk_at dksL_law_31 20 rfl rfl)
theorem dL_law_843 : decode cL_law 843 = .ok (.lstore 7, 2) := dk_55 7 (dk_at dksL_law_32 0 rfl rfl)
theorem dL_law_845 : decode cL_law 845 = .ok (.aload_n 2, 1) := dk_44 (dk_at dksL_law_32 2 rfl rfl)
theorem dL_law_846 : decode cL_law 846 = .ok (.invokevirtual 107, 3) := dk_182 0 107 (dk_at dksL_law_32 3 rfl rfl)
theorem dL_law_849 : decode cL_law 849 = .ok (.iload 6, 2) := dk_21 6 (dk_at dksL_law_32 6 rfl rfl)
theorem dL_law_851 : decode cL_law 851 = .ok (.if_icmp .eq 5, 3) := dk_159 0 5 (dk_at dksL_law_32 8 rfl rfl)
theorem dL_law_854 : decode cL_law 854 = .ok (.iconst 0, 1) := dk_3 (dk_at dksL_law_32 11 rfl rfl)
theorem dL_law_855 : decode cL_law 855 = .ok (.ireturn, 1) := dk_172 (dk_at dksL_law_32 12 rfl rfl)
theorem dL_law_856 : decode cL_law 856 = .ok (.iload 6, 2) := dk_21 6 (dk_at dksL_law_32 13 rfl rfl)
theorem dL_law_858 : decode cL_law 858 = .ok (.ifCond .ne 14, 3) := dk_154 0 14 (dk_at dksL_law_32 15 rfl rfl)
theorem dL_law_861 : decode cL_law 861 = .ok (.aload_n 3, 1) := dk_45 (dk_at dksL_law_32 18 rfl rfl)
theorem dL_law_862 : decode cL_law 862 = .ok (.iconst 0, 1) := dk_3 (dk_at dksL_law_32 19 rfl rfl)
theorem dL_law_863 : decode cL_law 863 = .ok (.laload, 1) := dk_47 (dk_at dksL_law_32 20 rfl rfl)
theorem dL_law_864 : decode cL_law 864 = .ok (.lload 7, 2) := dk_22 7 (dk_at dksL_law_32 21 rfl rfl)
theorem dL_law_866 : decode cL_law 866 = .ok (.lcmp, 1) := dk_148 (dk_at dksL_law_32 23 rfl rfl)
theorem dL_law_867 : decode cL_law 867 = .ok (.ifCond .eq 5, 3) := dk_153 0 5 (dk_at dksL_law_33 0 rfl rfl)
theorem dL_law_870 : decode cL_law 870 = .ok (.iconst 0, 1) := dk_3 (dk_at dksL_law_33 3 rfl rfl)
theorem dL_law_871 : decode cL_law 871 = .ok (.ireturn, 1) := dk_172 (dk_at dksL_law_33 4 rfl rfl)
theorem dL_law_872 : decode cL_law 872 = .ok (.goto 759, 3) := dk_167 2 247 (dk_at dksL_law_33 5 rfl rfl)
theorem dL_law_875 : decode cL_law 875 = .ok (.aload_n 1, 1) := dk_43 (dk_at dksL_law_33 8 rfl rfl)
theorem dL_law_876 : decode cL_law 876 = .ok (.aload_n 0, 1) := dk_42 (dk_at dksL_law_33 9 rfl rfl)
theorem dL_law_877 : decode cL_law 877 = .ok (.iload 5, 2) := dk_21 5 (dk_at dksL_law_33 10 rfl rfl)
theorem dL_law_879 : decode cL_law 879 = .ok (.iconst 1, 1) := dk_4 (dk_at dksL_law_33 12 rfl rfl)
theorem dL_law_880 : decode cL_law 880 = .ok (.iadd, 1) := dk_96 (dk_at dksL_law_33 13 rfl rfl)
theorem dL_law_881 : decode cL_law 881 = .ok (.iaload, 1) := dk_46 (dk_at dksL_law_33 14 rfl rfl)
theorem dL_law_882 : decode cL_law 882 = .ok (.aload_n 3, 1) := dk_45 (dk_at dksL_law_33 15 rfl rfl)
theorem dL_law_883 : decode cL_law 883 = .ok (.invokestatic 148, 3) := dk_184 0 148 (dk_at dksL_law_33 16 rfl rfl)
theorem dL_law_886 : decode cL_law 886 = .ok (.istore 6, 2) := dk_54 6 (dk_at dksL_law_33 19 rfl rfl)
theorem dL_law_888 : decode cL_law 888 = .ok (.aload_n 2, 1) := dk_44 (dk_at dksL_law_33 21 rfl rfl)
theorem dL_law_889 : decode cL_law 889 = .ok (.aload_n 0, 1) := dk_42 (dk_at dksL_law_33 22 rfl rfl)
theorem dL_law_890 : decode cL_law 890 = .ok (.iload 5, 2) := dk_21 5 (dk_at dksL_law_34 0 rfl rfl)
theorem dL_law_892 : decode cL_law 892 = .ok (.iconst 1, 1) := dk_4 (dk_at dksL_law_34 2 rfl rfl)
theorem dL_law_893 : decode cL_law 893 = .ok (.iadd, 1) := dk_96 (dk_at dksL_law_34 3 rfl rfl)
theorem dL_law_894 : decode cL_law 894 = .ok (.iaload, 1) := dk_46 (dk_at dksL_law_34 4 rfl rfl)
theorem dL_law_895 : decode cL_law 895 = .ok (.invokevirtual 150, 3) := dk_182 0 150 (dk_at dksL_law_34 5 rfl rfl)
theorem dL_law_898 : decode cL_law 898 = .ok (.lstore 7, 2) := dk_55 7 (dk_at dksL_law_34 8 rfl rfl)
theorem dL_law_900 : decode cL_law 900 = .ok (.aload_n 2, 1) := dk_44 (dk_at dksL_law_34 10 rfl rfl)
theorem dL_law_901 : decode cL_law 901 = .ok (.invokevirtual 107, 3) := dk_182 0 107 (dk_at dksL_law_34 11 rfl rfl)
theorem dL_law_904 : decode cL_law 904 = .ok (.iload 6, 2) := dk_21 6 (dk_at dksL_law_34 14 rfl rfl)
theorem dL_law_906 : decode cL_law 906 = .ok (.if_icmp .eq 5, 3) := dk_159 0 5 (dk_at dksL_law_34 16 rfl rfl)
theorem dL_law_909 : decode cL_law 909 = .ok (.iconst 0, 1) := dk_3 (dk_at dksL_law_34 19 rfl rfl)
theorem dL_law_910 : decode cL_law 910 = .ok (.ireturn, 1) := dk_172 (dk_at dksL_law_34 20 rfl rfl)
theorem dL_law_911 : decode cL_law 911 = .ok (.iload 6, 2) := dk_21 6 (dk_at dksL_law_34 21 rfl rfl)
theorem dL_law_913 : decode cL_law 913 = .ok (.ifCond .ne 14, 3) := dk_154 0 14 (dk_at dksL_law_35 0 rfl rfl)
theorem dL_law_916 : decode cL_law 916 = .ok (.aload_n 3, 1) := dk_45 (dk_at dksL_law_35 3 rfl rfl)
theorem dL_law_917 : decode cL_law 917 = .ok (.iconst 0, 1) := dk_3 (dk_at dksL_law_35 4 rfl rfl)
theorem dL_law_918 : decode cL_law 918 = .ok (.laload, 1) := dk_47 (dk_at dksL_law_35 5 rfl rfl)
theorem dL_law_919 : decode cL_law 919 = .ok (.lload 7, 2) := dk_22 7 (dk_at dksL_law_35 6 rfl rfl)
theorem dL_law_921 : decode cL_law 921 = .ok (.lcmp, 1) := dk_148 (dk_at dksL_law_35 8 rfl rfl)
theorem dL_law_922 : decode cL_law 922 = .ok (.ifCond .eq 5, 3) := dk_153 0 5 (dk_at dksL_law_35 9 rfl rfl)
theorem dL_law_925 : decode cL_law 925 = .ok (.iconst 0, 1) := dk_3 (dk_at dksL_law_35 12 rfl rfl)
theorem dL_law_926 : decode cL_law 926 = .ok (.ireturn, 1) := dk_172 (dk_at dksL_law_35 13 rfl rfl)
theorem dL_law_927 : decode cL_law 927 = .ok (.goto 704, 3) := dk_167 2 192 (dk_at dksL_law_35 14 rfl rfl)
theorem dL_law_930 : decode cL_law 930 = .ok (.aload_n 1, 1) := dk_43 (dk_at dksL_law_35 17 rfl rfl)
theorem dL_law_931 : decode cL_law 931 = .ok (.aload_n 0, 1) := dk_42 (dk_at dksL_law_35 18 rfl rfl)
theorem dL_law_932 : decode cL_law 932 = .ok (.iload 5, 2) := dk_21 5 (dk_at dksL_law_35 19 rfl rfl)
theorem dL_law_934 : decode cL_law 934 = .ok (.iconst 1, 1) := dk_4 (dk_at dksL_law_35 21 rfl rfl)
theorem dL_law_935 : decode cL_law 935 = .ok (.iadd, 1) := dk_96 (dk_at dksL_law_35 22 rfl rfl)
theorem dL_law_936 : decode cL_law 936 = .ok (.iaload, 1) := dk_46 (dk_at dksL_law_35 23 rfl rfl)
theorem dL_law_937 : decode cL_law 937 = .ok (.aload_n 0, 1) := dk_42 (dk_at dksL_law_36 0 rfl rfl)
theorem dL_law_938 : decode cL_law 938 = .ok (.iload 5, 2) := dk_21 5 (dk_at dksL_law_36 1 rfl rfl)
theorem dL_law_940 : decode cL_law 940 = .ok (.iconst 2, 1) := dk_5 (dk_at dksL_law_36 3 rfl rfl)
theorem dL_law_941 : decode cL_law 941 = .ok (.iadd, 1) := dk_96 (dk_at dksL_law_36 4 rfl rfl)
theorem dL_law_942 : decode cL_law 942 = .ok (.iaload, 1) := dk_46 (dk_at dksL_law_36 5 rfl rfl)
theorem dL_law_943 : decode cL_law 943 = .ok (.aload_n 3, 1) := dk_45 (dk_at dksL_law_36 6 rfl rfl)
theorem dL_law_944 : decode cL_law 944 = .ok (.invokestatic 151, 3) := dk_184 0 151 (dk_at dksL_law_36 7 rfl rfl)
theorem dL_law_947 : decode cL_law 947 = .ok (.istore 6, 2) := dk_54 6 (dk_at dksL_law_36 10 rfl rfl)
theorem dL_law_949 : decode cL_law 949 = .ok (.aload_n 2, 1) := dk_44 (dk_at dksL_law_36 12 rfl rfl)
theorem dL_law_950 : decode cL_law 950 = .ok (.aload_n 0, 1) := dk_42 (dk_at dksL_law_36 13 rfl rfl)
theorem dL_law_951 : decode cL_law 951 = .ok (.iload 5, 2) := dk_21 5 (dk_at dksL_law_36 14 rfl rfl)
theorem dL_law_953 : decode cL_law 953 = .ok (.iconst 1, 1) := dk_4 (dk_at dksL_law_36 16 rfl rfl)
theorem dL_law_954 : decode cL_law 954 = .ok (.iadd, 1) := dk_96 (dk_at dksL_law_36 17 rfl rfl)
theorem dL_law_955 : decode cL_law 955 = .ok (.iaload, 1) := dk_46 (dk_at dksL_law_36 18 rfl rfl)
theorem dL_law_956 : decode cL_law 956 = .ok (.aload_n 0, 1) := dk_42 (dk_at dksL_law_36 19 rfl rfl)
theorem dL_law_957 : decode cL_law 957 = .ok (.iload 5, 2) := dk_21 5 (dk_at dksL_law_36 20 rfl rfl)
theorem dL_law_959 : decode cL_law 959 = .ok (.iconst 2, 1) := dk_5 (dk_at dksL_law_36 22 rfl rfl)
theorem dL_law_960 : decode cL_law 960 = .ok (.iadd, 1) := dk_96 (dk_at dksL_law_36 23 rfl rfl)
theorem dL_law_961 : decode cL_law 961 = .ok (.iaload, 1) := dk_46 (dk_at dksL_law_37 0 rfl rfl)
theorem dL_law_962 : decode cL_law 962 = .ok (.invokevirtual 153, 3) := dk_182 0 153 (dk_at dksL_law_37 1 rfl rfl)
theorem dL_law_965 : decode cL_law 965 = .ok (.istore 7, 2) := dk_54 7 (dk_at dksL_law_37 4 rfl rfl)
theorem dL_law_967 : decode cL_law 967 = .ok (.aload_n 2, 1) := dk_44 (dk_at dksL_law_37 6 rfl rfl)
theorem dL_law_968 : decode cL_law 968 = .ok (.invokevirtual 107, 3) := dk_182 0 107 (dk_at dksL_law_37 7 rfl rfl)
theorem dL_law_971 : decode cL_law 971 = .ok (.iload 6, 2) := dk_21 6 (dk_at dksL_law_37 10 rfl rfl)
theorem dL_law_973 : decode cL_law 973 = .ok (.if_icmp .eq 5, 3) := dk_159 0 5 (dk_at dksL_law_37 12 rfl rfl)
theorem dL_law_976 : decode cL_law 976 = .ok (.iconst 0, 1) := dk_3 (dk_at dksL_law_37 15 rfl rfl)
theorem dL_law_977 : decode cL_law 977 = .ok (.ireturn, 1) := dk_172 (dk_at dksL_law_37 16 rfl rfl)
theorem dL_law_978 : decode cL_law 978 = .ok (.iload 6, 2) := dk_21 6 (dk_at dksL_law_37 17 rfl rfl)
theorem dL_law_980 : decode cL_law 980 = .ok (.ifCond .ne 15, 3) := dk_154 0 15 (dk_at dksL_law_37 19 rfl rfl)
theorem dL_law_983 : decode cL_law 983 = .ok (.aload_n 3, 1) := dk_45 (dk_at dksL_law_37 22 rfl rfl)
theorem dL_law_984 : decode cL_law 984 = .ok (.iconst 0, 1) := dk_3 (dk_at dksL_law_37 23 rfl rfl)
theorem dL_law_985 : decode cL_law 985 = .ok (.laload, 1) := dk_47 (dk_at dksL_law_38 0 rfl rfl)
theorem dL_law_986 : decode cL_law 986 = .ok (.iload 7, 2) := dk_21 7 (dk_at dksL_law_38 1 rfl rfl)
theorem dL_law_988 : decode cL_law 988 = .ok (.i2l, 1) := dk_133 (dk_at dksL_law_38 3 rfl rfl)
theorem dL_law_989 : decode cL_law 989 = .ok (.lcmp, 1) := dk_148 (dk_at dksL_law_38 4 rfl rfl)
theorem dL_law_990 : decode cL_law 990 = .ok (.ifCond .eq 5, 3) := dk_153 0 5 (dk_at dksL_law_38 5 rfl rfl)
theorem dL_law_993 : decode cL_law 993 = .ok (.iconst 0, 1) := dk_3 (dk_at dksL_law_38 8 rfl rfl)
theorem dL_law_994 : decode cL_law 994 = .ok (.ireturn, 1) := dk_172 (dk_at dksL_law_38 9 rfl rfl)
theorem dL_law_995 : decode cL_law 995 = .ok (.goto 636, 3) := dk_167 2 124 (dk_at dksL_law_38 10 rfl rfl)
theorem dL_law_998 : decode cL_law 998 = .ok (.aload_n 1, 1) := dk_43 (dk_at dksL_law_38 13 rfl rfl)
theorem dL_law_999 : decode cL_law 999 = .ok (.aload_n 0, 1) := dk_42 (dk_at dksL_law_38 14 rfl rfl)
theorem dL_law_1000 : decode cL_law 1000 = .ok (.iload 5, 2) := dk_21 5 (dk_at dksL_law_38 15 rfl rfl)
theorem dL_law_1002 : decode cL_law 1002 = .ok (.iconst 1, 1) := dk_4 (dk_at dksL_law_38 17 rfl rfl)
theorem dL_law_1003 : decode cL_law 1003 = .ok (.iadd, 1) := dk_96 (dk_at dksL_law_38 18 rfl rfl)
theorem dL_law_1004 : decode cL_law 1004 = .ok (.iaload, 1) := dk_46 (dk_at dksL_law_38 19 rfl rfl)
theorem dL_law_1005 : decode cL_law 1005 = .ok (.aload 4, 2) := dk_25 4 (dk_at dksL_law_38 20 rfl rfl)
theorem dL_law_1007 : decode cL_law 1007 = .ok (.invokestatic 154, 3) := dk_184 0 154 (dk_at dksL_law_39 0 rfl rfl)
theorem dL_law_1010 : decode cL_law 1010 = .ok (.istore 6, 2) := dk_54 6 (dk_at dksL_law_39 3 rfl rfl)
theorem dL_law_1012 : decode cL_law 1012 = .ok (.aload_n 2, 1) := dk_44 (dk_at dksL_law_39 5 rfl rfl)
theorem dL_law_1013 : decode cL_law 1013 = .ok (.aload_n 0, 1) := dk_42 (dk_at dksL_law_39 6 rfl rfl)
theorem dL_law_1014 : decode cL_law 1014 = .ok (.iload 5, 2) := dk_21 5 (dk_at dksL_law_39 7 rfl rfl)
theorem dL_law_1016 : decode cL_law 1016 = .ok (.iconst 1, 1) := dk_4 (dk_at dksL_law_39 9 rfl rfl)
theorem dL_law_1017 : decode cL_law 1017 = .ok (.iadd, 1) := dk_96 (dk_at dksL_law_39 10 rfl rfl)
theorem dL_law_1018 : decode cL_law 1018 = .ok (.iaload, 1) := dk_46 (dk_at dksL_law_39 11 rfl rfl)
theorem dL_law_1019 : decode cL_law 1019 = .ok (.invokevirtual 157, 3) := dk_182 0 157 (dk_at dksL_law_39 12 rfl rfl)
theorem dL_law_1022 : decode cL_law 1022 = .ok (.dstore 7, 2) := dk_57 7 (dk_at dksL_law_39 15 rfl rfl)
theorem dL_law_1024 : decode cL_law 1024 = .ok (.aload_n 2, 1) := dk_44 (dk_at dksL_law_39 17 rfl rfl)
theorem dL_law_1025 : decode cL_law 1025 = .ok (.invokevirtual 107, 3) := dk_182 0 107 (dk_at dksL_law_39 18 rfl rfl)
theorem dL_law_1028 : decode cL_law 1028 = .ok (.iload 6, 2) := dk_21 6 (dk_at dksL_law_39 21 rfl rfl)
theorem dL_law_1030 : decode cL_law 1030 = .ok (.if_icmp .eq 5, 3) := dk_159 0 5 (dk_at dksL_law_40 0 rfl rfl)
theorem dL_law_1033 : decode cL_law 1033 = .ok (.iconst 0, 1) := dk_3 (dk_at dksL_law_40 3 rfl rfl)
theorem dL_law_1034 : decode cL_law 1034 = .ok (.ireturn, 1) := dk_172 (dk_at dksL_law_40 4 rfl rfl)
theorem dL_law_1035 : decode cL_law 1035 = .ok (.iload 6, 2) := dk_21 6 (dk_at dksL_law_40 5 rfl rfl)
theorem dL_law_1037 : decode cL_law 1037 = .ok (.ifCond .ne 35, 3) := dk_154 0 35 (dk_at dksL_law_40 7 rfl rfl)
theorem dL_law_1040 : decode cL_law 1040 = .ok (.aload 4, 2) := dk_25 4 (dk_at dksL_law_40 10 rfl rfl)
theorem dL_law_1042 : decode cL_law 1042 = .ok (.iconst 0, 1) := dk_3 (dk_at dksL_law_40 12 rfl rfl)
theorem dL_law_1043 : decode cL_law 1043 = .ok (.daload, 1) := dk_49 (dk_at dksL_law_40 13 rfl rfl)
theorem dL_law_1044 : decode cL_law 1044 = .ok (.dload 7, 2) := dk_24 7 (dk_at dksL_law_40 14 rfl rfl)
theorem dL_law_1046 : decode cL_law 1046 = .ok (.dcmp .l, 1) := dk_151 (dk_at dksL_law_40 16 rfl rfl)
theorem dL_law_1047 : decode cL_law 1047 = .ok (.ifCond .eq 25, 3) := dk_153 0 25 (dk_at dksL_law_40 17 rfl rfl)
theorem dL_law_1050 : decode cL_law 1050 = .ok (.aload 4, 2) := dk_25 4 (dk_at dksL_law_40 20 rfl rfl)
theorem dL_law_1052 : decode cL_law 1052 = .ok (.iconst 0, 1) := dk_3 (dk_at dksL_law_40 22 rfl rfl)
theorem dL_law_1053 : decode cL_law 1053 = .ok (.daload, 1) := dk_49 (dk_at dksL_law_40 23 rfl rfl)
theorem dL_law_1054 : decode cL_law 1054 = .ok (.aload 4, 2) := dk_25 4 (dk_at dksL_law_41 0 rfl rfl)
theorem dL_law_1056 : decode cL_law 1056 = .ok (.iconst 0, 1) := dk_3 (dk_at dksL_law_41 2 rfl rfl)
theorem dL_law_1057 : decode cL_law 1057 = .ok (.daload, 1) := dk_49 (dk_at dksL_law_41 3 rfl rfl)
theorem dL_law_1058 : decode cL_law 1058 = .ok (.dcmp .l, 1) := dk_151 (dk_at dksL_law_41 4 rfl rfl)
theorem dL_law_1059 : decode cL_law 1059 = .ok (.ifCond .eq 11, 3) := dk_153 0 11 (dk_at dksL_law_41 5 rfl rfl)
theorem dL_law_1062 : decode cL_law 1062 = .ok (.dload 7, 2) := dk_24 7 (dk_at dksL_law_41 8 rfl rfl)
theorem dL_law_1064 : decode cL_law 1064 = .ok (.dload 7, 2) := dk_24 7 (dk_at dksL_law_41 10 rfl rfl)
theorem dL_law_1066 : decode cL_law 1066 = .ok (.dcmp .l, 1) := dk_151 (dk_at dksL_law_41 12 rfl rfl)
theorem dL_law_1067 : decode cL_law 1067 = .ok (.ifCond .ne 5, 3) := dk_154 0 5 (dk_at dksL_law_41 13 rfl rfl)
theorem dL_law_1070 : decode cL_law 1070 = .ok (.iconst 0, 1) := dk_3 (dk_at dksL_law_41 16 rfl rfl)
theorem dL_law_1071 : decode cL_law 1071 = .ok (.ireturn, 1) := dk_172 (dk_at dksL_law_41 17 rfl rfl)
theorem dL_law_1072 : decode cL_law 1072 = .ok (.goto 559, 3) := dk_167 2 47 (dk_at dksL_law_41 18 rfl rfl)
theorem dL_law_1075 : decode cL_law 1075 = .ok (.aload_n 1, 1) := dk_43 (dk_at dksL_law_41 21 rfl rfl)
theorem dL_law_1076 : decode cL_law 1076 = .ok (.aload_n 0, 1) := dk_42 (dk_at dksL_law_41 22 rfl rfl)
theorem dL_law_1077 : decode cL_law 1077 = .ok (.iload 5, 2) := dk_21 5 (dk_at dksL_law_42 0 rfl rfl)
theorem dL_law_1079 : decode cL_law 1079 = .ok (.iconst 1, 1) := dk_4 (dk_at dksL_law_42 2 rfl rfl)
theorem dL_law_1080 : decode cL_law 1080 = .ok (.iadd, 1) := dk_96 (dk_at dksL_law_42 3 rfl rfl)
theorem dL_law_1081 : decode cL_law 1081 = .ok (.iaload, 1) := dk_46 (dk_at dksL_law_42 4 rfl rfl)
theorem dL_law_1082 : decode cL_law 1082 = .ok (.aload_n 0, 1) := dk_42 (dk_at dksL_law_42 5 rfl rfl)
theorem dL_law_1083 : decode cL_law 1083 = .ok (.iload 5, 2) := dk_21 5 (dk_at dksL_law_42 6 rfl rfl)
theorem dL_law_1085 : decode cL_law 1085 = .ok (.iconst 2, 1) := dk_5 (dk_at dksL_law_42 8 rfl rfl)
theorem dL_law_1086 : decode cL_law 1086 = .ok (.iadd, 1) := dk_96 (dk_at dksL_law_42 9 rfl rfl)
theorem dL_law_1087 : decode cL_law 1087 = .ok (.iaload, 1) := dk_46 (dk_at dksL_law_42 10 rfl rfl)
theorem dL_law_1088 : decode cL_law 1088 = .ok (.aload_n 3, 1) := dk_45 (dk_at dksL_law_42 11 rfl rfl)
theorem dL_law_1089 : decode cL_law 1089 = .ok (.invokestatic 158, 3) := dk_184 0 158 (dk_at dksL_law_42 12 rfl rfl)
theorem dL_law_1092 : decode cL_law 1092 = .ok (.istore 6, 2) := dk_54 6 (dk_at dksL_law_42 15 rfl rfl)
theorem dL_law_1094 : decode cL_law 1094 = .ok (.aload_n 2, 1) := dk_44 (dk_at dksL_law_42 17 rfl rfl)
theorem dL_law_1095 : decode cL_law 1095 = .ok (.aload_n 0, 1) := dk_42 (dk_at dksL_law_42 18 rfl rfl)
theorem dL_law_1096 : decode cL_law 1096 = .ok (.iload 5, 2) := dk_21 5 (dk_at dksL_law_42 19 rfl rfl)
theorem dL_law_1098 : decode cL_law 1098 = .ok (.iconst 1, 1) := dk_4 (dk_at dksL_law_42 21 rfl rfl)
theorem dL_law_1099 : decode cL_law 1099 = .ok (.iadd, 1) := dk_96 (dk_at dksL_law_42 22 rfl rfl)
theorem dL_law_1100 : decode cL_law 1100 = .ok (.iaload, 1) := dk_46 (dk_at dksL_law_42 23 rfl rfl)
theorem dL_law_1101 : decode cL_law 1101 = .ok (.aload_n 0, 1) := dk_42 (dk_at dksL_law_43 0 rfl rfl)
theorem dL_law_1102 : decode cL_law 1102 = .ok (.iload 5, 2) := dk_21 5 (dk_at dksL_law_43 1 rfl rfl)
theorem dL_law_1104 : decode cL_law 1104 = .ok (.iconst 2, 1) := dk_5 (dk_at dksL_law_43 3 rfl rfl)
theorem dL_law_1105 : decode cL_law 1105 = .ok (.iadd, 1) := dk_96 (dk_at dksL_law_43 4 rfl rfl)
theorem dL_law_1106 : decode cL_law 1106 = .ok (.iaload, 1) := dk_46 (dk_at dksL_law_43 5 rfl rfl)
theorem dL_law_1107 : decode cL_law 1107 = .ok (.invokevirtual 160, 3) := dk_182 0 160 (dk_at dksL_law_43 6 rfl rfl)
theorem dL_law_1110 : decode cL_law 1110 = .ok (.istore 7, 2) := dk_54 7 (dk_at dksL_law_43 9 rfl rfl)
theorem dL_law_1112 : decode cL_law 1112 = .ok (.aload_n 2, 1) := dk_44 (dk_at dksL_law_43 11 rfl rfl)
theorem dL_law_1113 : decode cL_law 1113 = .ok (.invokevirtual 107, 3) := dk_182 0 107 (dk_at dksL_law_43 12 rfl rfl)
theorem dL_law_1116 : decode cL_law 1116 = .ok (.iload 6, 2) := dk_21 6 (dk_at dksL_law_43 15 rfl rfl)
theorem dL_law_1118 : decode cL_law 1118 = .ok (.if_icmp .eq 5, 3) := dk_159 0 5 (dk_at dksL_law_43 17 rfl rfl)
theorem dL_law_1121 : decode cL_law 1121 = .ok (.iconst 0, 1) := dk_3 (dk_at dksL_law_43 20 rfl rfl)
theorem dL_law_1122 : decode cL_law 1122 = .ok (.ireturn, 1) := dk_172 (dk_at dksL_law_43 21 rfl rfl)
theorem dL_law_1123 : decode cL_law 1123 = .ok (.iload 6, 2) := dk_21 6 (dk_at dksL_law_43 22 rfl rfl)
theorem dL_law_1125 : decode cL_law 1125 = .ok (.ifCond .ne 15, 3) := dk_154 0 15 (dk_at dksL_law_44 0 rfl rfl)
theorem dL_law_1128 : decode cL_law 1128 = .ok (.aload_n 3, 1) := dk_45 (dk_at dksL_law_44 3 rfl rfl)
theorem dL_law_1129 : decode cL_law 1129 = .ok (.iconst 0, 1) := dk_3 (dk_at dksL_law_44 4 rfl rfl)
theorem dL_law_1130 : decode cL_law 1130 = .ok (.laload, 1) := dk_47 (dk_at dksL_law_44 5 rfl rfl)
theorem dL_law_1131 : decode cL_law 1131 = .ok (.iload 7, 2) := dk_21 7 (dk_at dksL_law_44 6 rfl rfl)
theorem dL_law_1133 : decode cL_law 1133 = .ok (.i2l, 1) := dk_133 (dk_at dksL_law_44 8 rfl rfl)
theorem dL_law_1134 : decode cL_law 1134 = .ok (.lcmp, 1) := dk_148 (dk_at dksL_law_44 9 rfl rfl)
theorem dL_law_1135 : decode cL_law 1135 = .ok (.ifCond .eq 5, 3) := dk_153 0 5 (dk_at dksL_law_44 10 rfl rfl)
theorem dL_law_1138 : decode cL_law 1138 = .ok (.iconst 0, 1) := dk_3 (dk_at dksL_law_44 13 rfl rfl)
theorem dL_law_1139 : decode cL_law 1139 = .ok (.ireturn, 1) := dk_172 (dk_at dksL_law_44 14 rfl rfl)
theorem dL_law_1140 : decode cL_law 1140 = .ok (.goto 491, 3) := dk_167 1 235 (dk_at dksL_law_44 15 rfl rfl)
theorem dL_law_1143 : decode cL_law 1143 = .ok (.aload_n 1, 1) := dk_43 (dk_at dksL_law_44 18 rfl rfl)
theorem dL_law_1144 : decode cL_law 1144 = .ok (.aload_n 3, 1) := dk_45 (dk_at dksL_law_44 19 rfl rfl)
theorem dL_law_1145 : decode cL_law 1145 = .ok (.invokestatic 161, 3) := dk_184 0 161 (dk_at dksL_law_44 20 rfl rfl)
theorem dL_law_1148 : decode cL_law 1148 = .ok (.istore 6, 2) := dk_54 6 (dk_at dksL_law_45 0 rfl rfl)
theorem dL_law_1150 : decode cL_law 1150 = .ok (.aload_n 2, 1) := dk_44 (dk_at dksL_law_45 2 rfl rfl)
theorem dL_law_1151 : decode cL_law 1151 = .ok (.invokevirtual 163, 3) := dk_182 0 163 (dk_at dksL_law_45 3 rfl rfl)
theorem dL_law_1154 : decode cL_law 1154 = .ok (.istore 7, 2) := dk_54 7 (dk_at dksL_law_45 6 rfl rfl)
theorem dL_law_1156 : decode cL_law 1156 = .ok (.aload_n 2, 1) := dk_44 (dk_at dksL_law_45 8 rfl rfl)
theorem dL_law_1157 : decode cL_law 1157 = .ok (.invokevirtual 107, 3) := dk_182 0 107 (dk_at dksL_law_45 9 rfl rfl)
theorem dL_law_1160 : decode cL_law 1160 = .ok (.iload 6, 2) := dk_21 6 (dk_at dksL_law_45 12 rfl rfl)
theorem dL_law_1162 : decode cL_law 1162 = .ok (.if_icmp .eq 5, 3) := dk_159 0 5 (dk_at dksL_law_45 14 rfl rfl)
theorem dL_law_1165 : decode cL_law 1165 = .ok (.iconst 0, 1) := dk_3 (dk_at dksL_law_45 17 rfl rfl)
theorem dL_law_1166 : decode cL_law 1166 = .ok (.ireturn, 1) := dk_172 (dk_at dksL_law_45 18 rfl rfl)
theorem dL_law_1167 : decode cL_law 1167 = .ok (.iload 6, 2) := dk_21 6 (dk_at dksL_law_45 19 rfl rfl)
theorem dL_law_1169 : decode cL_law 1169 = .ok (.ifCond .ne 15, 3) := dk_154 0 15 (dk_at dksL_law_45 21 rfl rfl)
theorem dL_law_1172 : decode cL_law 1172 = .ok (.aload_n 3, 1) := dk_45 (dk_at dksL_law_46 0 rfl rfl)
theorem dL_law_1173 : decode cL_law 1173 = .ok (.iconst 0, 1) := dk_3 (dk_at dksL_law_46 1 rfl rfl)
theorem dL_law_1174 : decode cL_law 1174 = .ok (.laload, 1) := dk_47 (dk_at dksL_law_46 2 rfl rfl)
theorem dL_law_1175 : decode cL_law 1175 = .ok (.iload 7, 2) := dk_21 7 (dk_at dksL_law_46 3 rfl rfl)
theorem dL_law_1177 : decode cL_law 1177 = .ok (.i2l, 1) := dk_133 (dk_at dksL_law_46 5 rfl rfl)
theorem dL_law_1178 : decode cL_law 1178 = .ok (.lcmp, 1) := dk_148 (dk_at dksL_law_46 6 rfl rfl)
theorem dL_law_1179 : decode cL_law 1179 = .ok (.ifCond .eq 5, 3) := dk_153 0 5 (dk_at dksL_law_46 7 rfl rfl)
theorem dL_law_1182 : decode cL_law 1182 = .ok (.iconst 0, 1) := dk_3 (dk_at dksL_law_46 10 rfl rfl)
theorem dL_law_1183 : decode cL_law 1183 = .ok (.ireturn, 1) := dk_172 (dk_at dksL_law_46 11 rfl rfl)
theorem dL_law_1184 : decode cL_law 1184 = .ok (.goto 447, 3) := dk_167 1 191 (dk_at dksL_law_46 12 rfl rfl)
theorem dL_law_1187 : decode cL_law 1187 = .ok (.aload_n 1, 1) := dk_43 (dk_at dksL_law_46 15 rfl rfl)
theorem dL_law_1188 : decode cL_law 1188 = .ok (.aload_n 0, 1) := dk_42 (dk_at dksL_law_46 16 rfl rfl)
theorem dL_law_1189 : decode cL_law 1189 = .ok (.iload 5, 2) := dk_21 5 (dk_at dksL_law_46 17 rfl rfl)
theorem dL_law_1191 : decode cL_law 1191 = .ok (.iconst 1, 1) := dk_4 (dk_at dksL_law_46 19 rfl rfl)
theorem dL_law_1192 : decode cL_law 1192 = .ok (.iadd, 1) := dk_96 (dk_at dksL_law_46 20 rfl rfl)
theorem dL_law_1193 : decode cL_law 1193 = .ok (.iaload, 1) := dk_46 (dk_at dksL_law_46 21 rfl rfl)
theorem dL_law_1194 : decode cL_law 1194 = .ok (.aload_n 0, 1) := dk_42 (dk_at dksL_law_46 22 rfl rfl)
theorem dL_law_1195 : decode cL_law 1195 = .ok (.iload 5, 2) := dk_21 5 (dk_at dksL_law_47 0 rfl rfl)
theorem dL_law_1197 : decode cL_law 1197 = .ok (.iconst 2, 1) := dk_5 (dk_at dksL_law_47 2 rfl rfl)
theorem dL_law_1198 : decode cL_law 1198 = .ok (.iadd, 1) := dk_96 (dk_at dksL_law_47 3 rfl rfl)
theorem dL_law_1199 : decode cL_law 1199 = .ok (.iaload, 1) := dk_46 (dk_at dksL_law_47 4 rfl rfl)
theorem dL_law_1200 : decode cL_law 1200 = .ok (.aload_n 0, 1) := dk_42 (dk_at dksL_law_47 5 rfl rfl)
theorem dL_law_1201 : decode cL_law 1201 = .ok (.iload 5, 2) := dk_21 5 (dk_at dksL_law_47 6 rfl rfl)
theorem dL_law_1203 : decode cL_law 1203 = .ok (.iconst 3, 1) := dk_6 (dk_at dksL_law_47 8 rfl rfl)
theorem dL_law_1204 : decode cL_law 1204 = .ok (.iadd, 1) := dk_96 (dk_at dksL_law_47 9 rfl rfl)
theorem dL_law_1205 : decode cL_law 1205 = .ok (.iaload, 1) := dk_46 (dk_at dksL_law_47 10 rfl rfl)
theorem dL_law_1206 : decode cL_law 1206 = .ok (.aload_n 3, 1) := dk_45 (dk_at dksL_law_47 11 rfl rfl)
theorem dL_law_1207 : decode cL_law 1207 = .ok (.invokestatic 164, 3) := dk_184 0 164 (dk_at dksL_law_47 12 rfl rfl)
theorem dL_law_1210 : decode cL_law 1210 = .ok (.istore 6, 2) := dk_54 6 (dk_at dksL_law_47 15 rfl rfl)
theorem dL_law_1212 : decode cL_law 1212 = .ok (.aload_n 2, 1) := dk_44 (dk_at dksL_law_47 17 rfl rfl)
theorem dL_law_1213 : decode cL_law 1213 = .ok (.aload_n 0, 1) := dk_42 (dk_at dksL_law_47 18 rfl rfl)
theorem dL_law_1214 : decode cL_law 1214 = .ok (.iload 5, 2) := dk_21 5 (dk_at dksL_law_47 19 rfl rfl)
theorem dL_law_1216 : decode cL_law 1216 = .ok (.iconst 1, 1) := dk_4 (dk_at dksL_law_47 21 rfl rfl)
theorem dL_law_1217 : decode cL_law 1217 = .ok (.iadd, 1) := dk_96 (dk_at dksL_law_47 22 rfl rfl)
theorem dL_law_1218 : decode cL_law 1218 = .ok (.iaload, 1) := dk_46 (dk_at dksL_law_47 23 rfl rfl)
theorem dL_law_1219 : decode cL_law 1219 = .ok (.aload_n 0, 1) := dk_42 (dk_at dksL_law_48 0 rfl rfl)
theorem dL_law_1220 : decode cL_law 1220 = .ok (.iload 5, 2) := dk_21 5 (dk_at dksL_law_48 1 rfl rfl)
theorem dL_law_1222 : decode cL_law 1222 = .ok (.iconst 2, 1) := dk_5 (dk_at dksL_law_48 3 rfl rfl)
theorem dL_law_1223 : decode cL_law 1223 = .ok (.iadd, 1) := dk_96 (dk_at dksL_law_48 4 rfl rfl)
theorem dL_law_1224 : decode cL_law 1224 = .ok (.iaload, 1) := dk_46 (dk_at dksL_law_48 5 rfl rfl)
theorem dL_law_1225 : decode cL_law 1225 = .ok (.aload_n 0, 1) := dk_42 (dk_at dksL_law_48 6 rfl rfl)
theorem dL_law_1226 : decode cL_law 1226 = .ok (.iload 5, 2) := dk_21 5 (dk_at dksL_law_48 7 rfl rfl)
theorem dL_law_1228 : decode cL_law 1228 = .ok (.iconst 3, 1) := dk_6 (dk_at dksL_law_48 9 rfl rfl)
theorem dL_law_1229 : decode cL_law 1229 = .ok (.iadd, 1) := dk_96 (dk_at dksL_law_48 10 rfl rfl)
theorem dL_law_1230 : decode cL_law 1230 = .ok (.iaload, 1) := dk_46 (dk_at dksL_law_48 11 rfl rfl)
theorem dL_law_1231 : decode cL_law 1231 = .ok (.invokevirtual 166, 3) := dk_182 0 166 (dk_at dksL_law_48 12 rfl rfl)
theorem dL_law_1234 : decode cL_law 1234 = .ok (.istore 7, 2) := dk_54 7 (dk_at dksL_law_48 15 rfl rfl)
theorem dL_law_1236 : decode cL_law 1236 = .ok (.aload_n 2, 1) := dk_44 (dk_at dksL_law_48 17 rfl rfl)
theorem dL_law_1237 : decode cL_law 1237 = .ok (.invokevirtual 107, 3) := dk_182 0 107 (dk_at dksL_law_48 18 rfl rfl)
theorem dL_law_1240 : decode cL_law 1240 = .ok (.iload 6, 2) := dk_21 6 (dk_at dksL_law_48 21 rfl rfl)
theorem dL_law_1242 : decode cL_law 1242 = .ok (.if_icmp .eq 5, 3) := dk_159 0 5 (dk_at dksL_law_49 0 rfl rfl)
theorem dL_law_1245 : decode cL_law 1245 = .ok (.iconst 0, 1) := dk_3 (dk_at dksL_law_49 3 rfl rfl)
theorem dL_law_1246 : decode cL_law 1246 = .ok (.ireturn, 1) := dk_172 (dk_at dksL_law_49 4 rfl rfl)
theorem dL_law_1247 : decode cL_law 1247 = .ok (.iload 6, 2) := dk_21 6 (dk_at dksL_law_49 5 rfl rfl)
theorem dL_law_1249 : decode cL_law 1249 = .ok (.ifCond .ne 15, 3) := dk_154 0 15 (dk_at dksL_law_49 7 rfl rfl)
theorem dL_law_1252 : decode cL_law 1252 = .ok (.aload_n 3, 1) := dk_45 (dk_at dksL_law_49 10 rfl rfl)
theorem dL_law_1253 : decode cL_law 1253 = .ok (.iconst 0, 1) := dk_3 (dk_at dksL_law_49 11 rfl rfl)
theorem dL_law_1254 : decode cL_law 1254 = .ok (.laload, 1) := dk_47 (dk_at dksL_law_49 12 rfl rfl)
theorem dL_law_1255 : decode cL_law 1255 = .ok (.iload 7, 2) := dk_21 7 (dk_at dksL_law_49 13 rfl rfl)
theorem dL_law_1257 : decode cL_law 1257 = .ok (.i2l, 1) := dk_133 (dk_at dksL_law_49 15 rfl rfl)
theorem dL_law_1258 : decode cL_law 1258 = .ok (.lcmp, 1) := dk_148 (dk_at dksL_law_49 16 rfl rfl)
theorem dL_law_1259 : decode cL_law 1259 = .ok (.ifCond .eq 5, 3) := dk_153 0 5 (dk_at dksL_law_49 17 rfl rfl)
theorem dL_law_1262 : decode cL_law 1262 = .ok (.iconst 0, 1) := dk_3 (dk_at dksL_law_49 20 rfl rfl)
theorem dL_law_1263 : decode cL_law 1263 = .ok (.ireturn, 1) := dk_172 (dk_at dksL_law_49 21 rfl rfl)
theorem dL_law_1264 : decode cL_law 1264 = .ok (.goto 367, 3) := dk_167 1 111 (dk_at dksL_law_50 0 rfl rfl)
theorem dL_law_1267 : decode cL_law 1267 = .ok (.aload_n 1, 1) := dk_43 (dk_at dksL_law_50 3 rfl rfl)
theorem dL_law_1268 : decode cL_law 1268 = .ok (.aload_n 0, 1) := dk_42 (dk_at dksL_law_50 4 rfl rfl)
theorem dL_law_1269 : decode cL_law 1269 = .ok (.iload 5, 2) := dk_21 5 (dk_at dksL_law_50 5 rfl rfl)
theorem dL_law_1271 : decode cL_law 1271 = .ok (.iconst 1, 1) := dk_4 (dk_at dksL_law_50 7 rfl rfl)
theorem dL_law_1272 : decode cL_law 1272 = .ok (.iadd, 1) := dk_96 (dk_at dksL_law_50 8 rfl rfl)
theorem dL_law_1273 : decode cL_law 1273 = .ok (.iaload, 1) := dk_46 (dk_at dksL_law_50 9 rfl rfl)
theorem dL_law_1274 : decode cL_law 1274 = .ok (.aload_n 0, 1) := dk_42 (dk_at dksL_law_50 10 rfl rfl)
theorem dL_law_1275 : decode cL_law 1275 = .ok (.iload 5, 2) := dk_21 5 (dk_at dksL_law_50 11 rfl rfl)
theorem dL_law_1277 : decode cL_law 1277 = .ok (.iconst 2, 1) := dk_5 (dk_at dksL_law_50 13 rfl rfl)
theorem dL_law_1278 : decode cL_law 1278 = .ok (.iadd, 1) := dk_96 (dk_at dksL_law_50 14 rfl rfl)
theorem dL_law_1279 : decode cL_law 1279 = .ok (.iaload, 1) := dk_46 (dk_at dksL_law_50 15 rfl rfl)
theorem dL_law_1280 : decode cL_law 1280 = .ok (.aload_n 3, 1) := dk_45 (dk_at dksL_law_50 16 rfl rfl)
theorem dL_law_1281 : decode cL_law 1281 = .ok (.invokestatic 167, 3) := dk_184 0 167 (dk_at dksL_law_50 17 rfl rfl)
theorem dL_law_1284 : decode cL_law 1284 = .ok (.istore 6, 2) := dk_54 6 (dk_at dksL_law_50 20 rfl rfl)
theorem dL_law_1286 : decode cL_law 1286 = .ok (.aload_n 2, 1) := dk_44 (dk_at dksL_law_50 22 rfl rfl)
theorem dL_law_1287 : decode cL_law 1287 = .ok (.aload_n 0, 1) := dk_42 (dk_at dksL_law_50 23 rfl rfl)
theorem dL_law_1288 : decode cL_law 1288 = .ok (.iload 5, 2) := dk_21 5 (dk_at dksL_law_51 0 rfl rfl)
theorem dL_law_1290 : decode cL_law 1290 = .ok (.iconst 1, 1) := dk_4 (dk_at dksL_law_51 2 rfl rfl)
theorem dL_law_1291 : decode cL_law 1291 = .ok (.iadd, 1) := dk_96 (dk_at dksL_law_51 3 rfl rfl)
theorem dL_law_1292 : decode cL_law 1292 = .ok (.iaload, 1) := dk_46 (dk_at dksL_law_51 4 rfl rfl)
theorem dL_law_1293 : decode cL_law 1293 = .ok (.aload_n 0, 1) := dk_42 (dk_at dksL_law_51 5 rfl rfl)
theorem dL_law_1294 : decode cL_law 1294 = .ok (.iload 5, 2) := dk_21 5 (dk_at dksL_law_51 6 rfl rfl)
theorem dL_law_1296 : decode cL_law 1296 = .ok (.iconst 2, 1) := dk_5 (dk_at dksL_law_51 8 rfl rfl)
theorem dL_law_1297 : decode cL_law 1297 = .ok (.iadd, 1) := dk_96 (dk_at dksL_law_51 9 rfl rfl)
theorem dL_law_1298 : decode cL_law 1298 = .ok (.iaload, 1) := dk_46 (dk_at dksL_law_51 10 rfl rfl)
theorem dL_law_1299 : decode cL_law 1299 = .ok (.invokevirtual 169, 3) := dk_182 0 169 (dk_at dksL_law_51 11 rfl rfl)
theorem dL_law_1302 : decode cL_law 1302 = .ok (.istore 7, 2) := dk_54 7 (dk_at dksL_law_51 14 rfl rfl)
theorem dL_law_1304 : decode cL_law 1304 = .ok (.aload_n 2, 1) := dk_44 (dk_at dksL_law_51 16 rfl rfl)
theorem dL_law_1305 : decode cL_law 1305 = .ok (.invokevirtual 107, 3) := dk_182 0 107 (dk_at dksL_law_51 17 rfl rfl)
theorem dL_law_1308 : decode cL_law 1308 = .ok (.iload 6, 2) := dk_21 6 (dk_at dksL_law_51 20 rfl rfl)
theorem dL_law_1310 : decode cL_law 1310 = .ok (.if_icmp .eq 5, 3) := dk_159 0 5 (dk_at dksL_law_52 0 rfl rfl)
theorem dL_law_1313 : decode cL_law 1313 = .ok (.iconst 0, 1) := dk_3 (dk_at dksL_law_52 3 rfl rfl)
theorem dL_law_1314 : decode cL_law 1314 = .ok (.ireturn, 1) := dk_172 (dk_at dksL_law_52 4 rfl rfl)
theorem dL_law_1315 : decode cL_law 1315 = .ok (.iload 6, 2) := dk_21 6 (dk_at dksL_law_52 5 rfl rfl)
theorem dL_law_1317 : decode cL_law 1317 = .ok (.ifCond .ne 15, 3) := dk_154 0 15 (dk_at dksL_law_52 7 rfl rfl)
theorem dL_law_1320 : decode cL_law 1320 = .ok (.aload_n 3, 1) := dk_45 (dk_at dksL_law_52 10 rfl rfl)
theorem dL_law_1321 : decode cL_law 1321 = .ok (.iconst 0, 1) := dk_3 (dk_at dksL_law_52 11 rfl rfl)
theorem dL_law_1322 : decode cL_law 1322 = .ok (.laload, 1) := dk_47 (dk_at dksL_law_52 12 rfl rfl)
theorem dL_law_1323 : decode cL_law 1323 = .ok (.iload 7, 2) := dk_21 7 (dk_at dksL_law_52 13 rfl rfl)
theorem dL_law_1325 : decode cL_law 1325 = .ok (.i2l, 1) := dk_133 (dk_at dksL_law_52 15 rfl rfl)
theorem dL_law_1326 : decode cL_law 1326 = .ok (.lcmp, 1) := dk_148 (dk_at dksL_law_52 16 rfl rfl)
theorem dL_law_1327 : decode cL_law 1327 = .ok (.ifCond .eq 5, 3) := dk_153 0 5 (dk_at dksL_law_52 17 rfl rfl)
theorem dL_law_1330 : decode cL_law 1330 = .ok (.iconst 0, 1) := dk_3 (dk_at dksL_law_52 20 rfl rfl)
theorem dL_law_1331 : decode cL_law 1331 = .ok (.ireturn, 1) := dk_172 (dk_at dksL_law_52 21 rfl rfl)
theorem dL_law_1332 : decode cL_law 1332 = .ok (.goto 299, 3) := dk_167 1 43 (dk_at dksL_law_53 0 rfl rfl)
theorem dL_law_1335 : decode cL_law 1335 = .ok (.aload_n 1, 1) := dk_43 (dk_at dksL_law_53 3 rfl rfl)
theorem dL_law_1336 : decode cL_law 1336 = .ok (.invokevirtual 170, 3) := dk_182 0 170 (dk_at dksL_law_53 4 rfl rfl)
theorem dL_law_1339 : decode cL_law 1339 = .ok (.aload_n 2, 1) := dk_44 (dk_at dksL_law_53 7 rfl rfl)
theorem dL_law_1340 : decode cL_law 1340 = .ok (.invokevirtual 173, 3) := dk_182 0 173 (dk_at dksL_law_53 8 rfl rfl)
theorem dL_law_1343 : decode cL_law 1343 = .ok (.if_icmp .eq 288, 3) := dk_159 1 32 (dk_at dksL_law_53 11 rfl rfl)
theorem dL_law_1346 : decode cL_law 1346 = .ok (.iconst 0, 1) := dk_3 (dk_at dksL_law_53 14 rfl rfl)
theorem dL_law_1347 : decode cL_law 1347 = .ok (.ireturn, 1) := dk_172 (dk_at dksL_law_53 15 rfl rfl)
theorem dL_law_1348 : decode cL_law 1348 = .ok (.aload_n 1, 1) := dk_43 (dk_at dksL_law_53 16 rfl rfl)
theorem dL_law_1349 : decode cL_law 1349 = .ok (.aload_n 0, 1) := dk_42 (dk_at dksL_law_53 17 rfl rfl)
theorem dL_law_1350 : decode cL_law 1350 = .ok (.iload 5, 2) := dk_21 5 (dk_at dksL_law_53 18 rfl rfl)
theorem dL_law_1352 : decode cL_law 1352 = .ok (.iconst 1, 1) := dk_4 (dk_at dksL_law_53 20 rfl rfl)
theorem dL_law_1353 : decode cL_law 1353 = .ok (.iadd, 1) := dk_96 (dk_at dksL_law_53 21 rfl rfl)
theorem dL_law_1354 : decode cL_law 1354 = .ok (.iaload, 1) := dk_46 (dk_at dksL_law_53 22 rfl rfl)
theorem dL_law_1355 : decode cL_law 1355 = .ok (.aload_n 0, 1) := dk_42 (dk_at dksL_law_53 23 rfl rfl)
theorem dL_law_1356 : decode cL_law 1356 = .ok (.iload 5, 2) := dk_21 5 (dk_at dksL_law_54 0 rfl rfl)
theorem dL_law_1358 : decode cL_law 1358 = .ok (.iconst 2, 1) := dk_5 (dk_at dksL_law_54 2 rfl rfl)
theorem dL_law_1359 : decode cL_law 1359 = .ok (.iadd, 1) := dk_96 (dk_at dksL_law_54 3 rfl rfl)
theorem dL_law_1360 : decode cL_law 1360 = .ok (.iaload, 1) := dk_46 (dk_at dksL_law_54 4 rfl rfl)
theorem dL_law_1361 : decode cL_law 1361 = .ok (.aload_n 3, 1) := dk_45 (dk_at dksL_law_54 5 rfl rfl)
theorem dL_law_1362 : decode cL_law 1362 = .ok (.invokestatic 174, 3) := dk_184 0 174 (dk_at dksL_law_54 6 rfl rfl)
theorem dL_law_1365 : decode cL_law 1365 = .ok (.istore 6, 2) := dk_54 6 (dk_at dksL_law_54 9 rfl rfl)
theorem dL_law_1367 : decode cL_law 1367 = .ok (.aload_n 2, 1) := dk_44 (dk_at dksL_law_54 11 rfl rfl)
theorem dL_law_1368 : decode cL_law 1368 = .ok (.aload_n 0, 1) := dk_42 (dk_at dksL_law_54 12 rfl rfl)
theorem dL_law_1369 : decode cL_law 1369 = .ok (.iload 5, 2) := dk_21 5 (dk_at dksL_law_54 13 rfl rfl)
theorem dL_law_1371 : decode cL_law 1371 = .ok (.iconst 1, 1) := dk_4 (dk_at dksL_law_54 15 rfl rfl)
theorem dL_law_1372 : decode cL_law 1372 = .ok (.iadd, 1) := dk_96 (dk_at dksL_law_54 16 rfl rfl)
theorem dL_law_1373 : decode cL_law 1373 = .ok (.iaload, 1) := dk_46 (dk_at dksL_law_54 17 rfl rfl)
theorem dL_law_1374 : decode cL_law 1374 = .ok (.aload_n 0, 1) := dk_42 (dk_at dksL_law_54 18 rfl rfl)
theorem dL_law_1375 : decode cL_law 1375 = .ok (.iload 5, 2) := dk_21 5 (dk_at dksL_law_54 19 rfl rfl)
theorem dL_law_1377 : decode cL_law 1377 = .ok (.iconst 2, 1) := dk_5 (dk_at dksL_law_54 21 rfl rfl)
theorem dL_law_1378 : decode cL_law 1378 = .ok (.iadd, 1) := dk_96 (dk_at dksL_law_54 22 rfl rfl)
theorem dL_law_1379 : decode cL_law 1379 = .ok (.iaload, 1) := dk_46 (dk_at dksL_law_54 23 rfl rfl)
theorem dL_law_1380 : decode cL_law 1380 = .ok (.invokevirtual 176, 3) := dk_182 0 176 (dk_at dksL_law_55 0 rfl rfl)
theorem dL_law_1383 : decode cL_law 1383 = .ok (.istore 7, 2) := dk_54 7 (dk_at dksL_law_55 3 rfl rfl)
theorem dL_law_1385 : decode cL_law 1385 = .ok (.aload_n 2, 1) := dk_44 (dk_at dksL_law_55 5 rfl rfl)
theorem dL_law_1386 : decode cL_law 1386 = .ok (.invokevirtual 107, 3) := dk_182 0 107 (dk_at dksL_law_55 6 rfl rfl)
theorem dL_law_1389 : decode cL_law 1389 = .ok (.iload 6, 2) := dk_21 6 (dk_at dksL_law_55 9 rfl rfl)
theorem dL_law_1391 : decode cL_law 1391 = .ok (.if_icmp .eq 5, 3) := dk_159 0 5 (dk_at dksL_law_55 11 rfl rfl)
theorem dL_law_1394 : decode cL_law 1394 = .ok (.iconst 0, 1) := dk_3 (dk_at dksL_law_55 14 rfl rfl)
theorem dL_law_1395 : decode cL_law 1395 = .ok (.ireturn, 1) := dk_172 (dk_at dksL_law_55 15 rfl rfl)
theorem dL_law_1396 : decode cL_law 1396 = .ok (.iload 6, 2) := dk_21 6 (dk_at dksL_law_55 16 rfl rfl)
theorem dL_law_1398 : decode cL_law 1398 = .ok (.ifCond .ne 15, 3) := dk_154 0 15 (dk_at dksL_law_55 18 rfl rfl)
theorem dL_law_1401 : decode cL_law 1401 = .ok (.aload_n 3, 1) := dk_45 (dk_at dksL_law_55 21 rfl rfl)
theorem dL_law_1402 : decode cL_law 1402 = .ok (.iconst 0, 1) := dk_3 (dk_at dksL_law_55 22 rfl rfl)
theorem dL_law_1403 : decode cL_law 1403 = .ok (.laload, 1) := dk_47 (dk_at dksL_law_55 23 rfl rfl)
theorem dL_law_1404 : decode cL_law 1404 = .ok (.iload 7, 2) := dk_21 7 (dk_at dksL_law_56 0 rfl rfl)
theorem dL_law_1406 : decode cL_law 1406 = .ok (.i2l, 1) := dk_133 (dk_at dksL_law_56 2 rfl rfl)
theorem dL_law_1407 : decode cL_law 1407 = .ok (.lcmp, 1) := dk_148 (dk_at dksL_law_56 3 rfl rfl)
theorem dL_law_1408 : decode cL_law 1408 = .ok (.ifCond .eq 5, 3) := dk_153 0 5 (dk_at dksL_law_56 4 rfl rfl)
theorem dL_law_1411 : decode cL_law 1411 = .ok (.iconst 0, 1) := dk_3 (dk_at dksL_law_56 7 rfl rfl)
theorem dL_law_1412 : decode cL_law 1412 = .ok (.ireturn, 1) := dk_172 (dk_at dksL_law_56 8 rfl rfl)
theorem dL_law_1413 : decode cL_law 1413 = .ok (.goto 218, 3) := dk_167 0 218 (dk_at dksL_law_56 9 rfl rfl)
theorem dL_law_1416 : decode cL_law 1416 = .ok (.aload_n 1, 1) := dk_43 (dk_at dksL_law_56 12 rfl rfl)
theorem dL_law_1417 : decode cL_law 1417 = .ok (.aload_n 0, 1) := dk_42 (dk_at dksL_law_56 13 rfl rfl)
theorem dL_law_1418 : decode cL_law 1418 = .ok (.iload 5, 2) := dk_21 5 (dk_at dksL_law_56 14 rfl rfl)
theorem dL_law_1420 : decode cL_law 1420 = .ok (.iconst 1, 1) := dk_4 (dk_at dksL_law_56 16 rfl rfl)
theorem dL_law_1421 : decode cL_law 1421 = .ok (.iadd, 1) := dk_96 (dk_at dksL_law_56 17 rfl rfl)
theorem dL_law_1422 : decode cL_law 1422 = .ok (.iaload, 1) := dk_46 (dk_at dksL_law_56 18 rfl rfl)
theorem dL_law_1423 : decode cL_law 1423 = .ok (.i2c, 1) := dk_146 (dk_at dksL_law_56 19 rfl rfl)
theorem dL_law_1424 : decode cL_law 1424 = .ok (.aload_n 3, 1) := dk_45 (dk_at dksL_law_56 20 rfl rfl)
theorem dL_law_1425 : decode cL_law 1425 = .ok (.invokestatic 177, 3) := dk_184 0 177 (dk_at dksL_law_56 21 rfl rfl)
theorem dL_law_1428 : decode cL_law 1428 = .ok (.istore 6, 2) := dk_54 6 (dk_at dksL_law_57 0 rfl rfl)
theorem dL_law_1430 : decode cL_law 1430 = .ok (.aload_n 2, 1) := dk_44 (dk_at dksL_law_57 2 rfl rfl)
theorem dL_law_1431 : decode cL_law 1431 = .ok (.aload_n 0, 1) := dk_42 (dk_at dksL_law_57 3 rfl rfl)
theorem dL_law_1432 : decode cL_law 1432 = .ok (.iload 5, 2) := dk_21 5 (dk_at dksL_law_57 4 rfl rfl)
theorem dL_law_1434 : decode cL_law 1434 = .ok (.iconst 1, 1) := dk_4 (dk_at dksL_law_57 6 rfl rfl)
theorem dL_law_1435 : decode cL_law 1435 = .ok (.iadd, 1) := dk_96 (dk_at dksL_law_57 7 rfl rfl)
theorem dL_law_1436 : decode cL_law 1436 = .ok (.iaload, 1) := dk_46 (dk_at dksL_law_57 8 rfl rfl)
theorem dL_law_1437 : decode cL_law 1437 = .ok (.i2c, 1) := dk_146 (dk_at dksL_law_57 9 rfl rfl)
theorem dL_law_1438 : decode cL_law 1438 = .ok (.invokevirtual 180, 3) := dk_182 0 180 (dk_at dksL_law_57 10 rfl rfl)
theorem dL_law_1441 : decode cL_law 1441 = .ok (.istore 7, 2) := dk_54 7 (dk_at dksL_law_57 13 rfl rfl)
theorem dL_law_1443 : decode cL_law 1443 = .ok (.aload_n 2, 1) := dk_44 (dk_at dksL_law_57 15 rfl rfl)
theorem dL_law_1444 : decode cL_law 1444 = .ok (.invokevirtual 107, 3) := dk_182 0 107 (dk_at dksL_law_57 16 rfl rfl)
theorem dL_law_1447 : decode cL_law 1447 = .ok (.iload 6, 2) := dk_21 6 (dk_at dksL_law_57 19 rfl rfl)
theorem dL_law_1449 : decode cL_law 1449 = .ok (.if_icmp .eq 5, 3) := dk_159 0 5 (dk_at dksL_law_57 21 rfl rfl)
theorem dL_law_1452 : decode cL_law 1452 = .ok (.iconst 0, 1) := dk_3 (dk_at dksL_law_58 0 rfl rfl)
theorem dL_law_1453 : decode cL_law 1453 = .ok (.ireturn, 1) := dk_172 (dk_at dksL_law_58 1 rfl rfl)
theorem dL_law_1454 : decode cL_law 1454 = .ok (.iload 6, 2) := dk_21 6 (dk_at dksL_law_58 2 rfl rfl)
theorem dL_law_1456 : decode cL_law 1456 = .ok (.ifCond .ne 15, 3) := dk_154 0 15 (dk_at dksL_law_58 4 rfl rfl)
theorem dL_law_1459 : decode cL_law 1459 = .ok (.aload_n 3, 1) := dk_45 (dk_at dksL_law_58 7 rfl rfl)
theorem dL_law_1460 : decode cL_law 1460 = .ok (.iconst 0, 1) := dk_3 (dk_at dksL_law_58 8 rfl rfl)
theorem dL_law_1461 : decode cL_law 1461 = .ok (.laload, 1) := dk_47 (dk_at dksL_law_58 9 rfl rfl)
theorem dL_law_1462 : decode cL_law 1462 = .ok (.iload 7, 2) := dk_21 7 (dk_at dksL_law_58 10 rfl rfl)
theorem dL_law_1464 : decode cL_law 1464 = .ok (.i2l, 1) := dk_133 (dk_at dksL_law_58 12 rfl rfl)
theorem dL_law_1465 : decode cL_law 1465 = .ok (.lcmp, 1) := dk_148 (dk_at dksL_law_58 13 rfl rfl)
theorem dL_law_1466 : decode cL_law 1466 = .ok (.ifCond .eq 5, 3) := dk_153 0 5 (dk_at dksL_law_58 14 rfl rfl)
theorem dL_law_1469 : decode cL_law 1469 = .ok (.iconst 0, 1) := dk_3 (dk_at dksL_law_58 17 rfl rfl)
theorem dL_law_1470 : decode cL_law 1470 = .ok (.ireturn, 1) := dk_172 (dk_at dksL_law_58 18 rfl rfl)
theorem dL_law_1471 : decode cL_law 1471 = .ok (.goto 160, 3) := dk_167 0 160 (dk_at dksL_law_58 19 rfl rfl)
theorem dL_law_1474 : decode cL_law 1474 = .ok (.aload_n 1, 1) := dk_43 (dk_at dksL_law_58 22 rfl rfl)
theorem dL_law_1475 : decode cL_law 1475 = .ok (.aload_n 3, 1) := dk_45 (dk_at dksL_law_58 23 rfl rfl)
theorem dL_law_1476 : decode cL_law 1476 = .ok (.invokestatic 181, 3) := dk_184 0 181 (dk_at dksL_law_59 0 rfl rfl)
theorem dL_law_1479 : decode cL_law 1479 = .ok (.istore 6, 2) := dk_54 6 (dk_at dksL_law_59 3 rfl rfl)
theorem dL_law_1481 : decode cL_law 1481 = .ok (.aload_n 2, 1) := dk_44 (dk_at dksL_law_59 5 rfl rfl)
theorem dL_law_1482 : decode cL_law 1482 = .ok (.invokevirtual 183, 3) := dk_182 0 183 (dk_at dksL_law_59 6 rfl rfl)
theorem dL_law_1485 : decode cL_law 1485 = .ok (.istore 7, 2) := dk_54 7 (dk_at dksL_law_59 9 rfl rfl)
theorem dL_law_1487 : decode cL_law 1487 = .ok (.aload_n 2, 1) := dk_44 (dk_at dksL_law_59 11 rfl rfl)
theorem dL_law_1488 : decode cL_law 1488 = .ok (.invokevirtual 107, 3) := dk_182 0 107 (dk_at dksL_law_59 12 rfl rfl)
theorem dL_law_1491 : decode cL_law 1491 = .ok (.iload 6, 2) := dk_21 6 (dk_at dksL_law_59 15 rfl rfl)
theorem dL_law_1493 : decode cL_law 1493 = .ok (.if_icmp .eq 5, 3) := dk_159 0 5 (dk_at dksL_law_59 17 rfl rfl)
theorem dL_law_1496 : decode cL_law 1496 = .ok (.iconst 0, 1) := dk_3 (dk_at dksL_law_59 20 rfl rfl)
theorem dL_law_1497 : decode cL_law 1497 = .ok (.ireturn, 1) := dk_172 (dk_at dksL_law_59 21 rfl rfl)
theorem dL_law_1498 : decode cL_law 1498 = .ok (.iload 6, 2) := dk_21 6 (dk_at dksL_law_59 22 rfl rfl)
theorem dL_law_1500 : decode cL_law 1500 = .ok (.ifCond .ne 15, 3) := dk_154 0 15 (dk_at dksL_law_60 0 rfl rfl)
theorem dL_law_1503 : decode cL_law 1503 = .ok (.aload_n 3, 1) := dk_45 (dk_at dksL_law_60 3 rfl rfl)
theorem dL_law_1504 : decode cL_law 1504 = .ok (.iconst 0, 1) := dk_3 (dk_at dksL_law_60 4 rfl rfl)
theorem dL_law_1505 : decode cL_law 1505 = .ok (.laload, 1) := dk_47 (dk_at dksL_law_60 5 rfl rfl)
theorem dL_law_1506 : decode cL_law 1506 = .ok (.iload 7, 2) := dk_21 7 (dk_at dksL_law_60 6 rfl rfl)
theorem dL_law_1508 : decode cL_law 1508 = .ok (.i2l, 1) := dk_133 (dk_at dksL_law_60 8 rfl rfl)
theorem dL_law_1509 : decode cL_law 1509 = .ok (.lcmp, 1) := dk_148 (dk_at dksL_law_60 9 rfl rfl)
theorem dL_law_1510 : decode cL_law 1510 = .ok (.ifCond .eq 5, 3) := dk_153 0 5 (dk_at dksL_law_60 10 rfl rfl)
theorem dL_law_1513 : decode cL_law 1513 = .ok (.iconst 0, 1) := dk_3 (dk_at dksL_law_60 13 rfl rfl)
theorem dL_law_1514 : decode cL_law 1514 = .ok (.ireturn, 1) := dk_172 (dk_at dksL_law_60 14 rfl rfl)
theorem dL_law_1515 : decode cL_law 1515 = .ok (.goto 116, 3) := dk_167 0 116 (dk_at dksL_law_60 15 rfl rfl)
theorem dL_law_1518 : decode cL_law 1518 = .ok (.aload_n 1, 1) := dk_43 (dk_at dksL_law_60 18 rfl rfl)
theorem dL_law_1519 : decode cL_law 1519 = .ok (.aload_n 0, 1) := dk_42 (dk_at dksL_law_60 19 rfl rfl)
theorem dL_law_1520 : decode cL_law 1520 = .ok (.iload 5, 2) := dk_21 5 (dk_at dksL_law_60 20 rfl rfl)
theorem dL_law_1522 : decode cL_law 1522 = .ok (.iconst 1, 1) := dk_4 (dk_at dksL_law_60 22 rfl rfl)
theorem dL_law_1523 : decode cL_law 1523 = .ok (.iadd, 1) := dk_96 (dk_at dksL_law_60 23 rfl rfl)
theorem dL_law_1524 : decode cL_law 1524 = .ok (.iaload, 1) := dk_46 (dk_at dksL_law_61 0 rfl rfl)
theorem dL_law_1525 : decode cL_law 1525 = .ok (.aload_n 3, 1) := dk_45 (dk_at dksL_law_61 1 rfl rfl)
theorem dL_law_1526 : decode cL_law 1526 = .ok (.invokestatic 184, 3) := dk_184 0 184 (dk_at dksL_law_61 2 rfl rfl)
theorem dL_law_1529 : decode cL_law 1529 = .ok (.istore 6, 2) := dk_54 6 (dk_at dksL_law_61 5 rfl rfl)
theorem dL_law_1531 : decode cL_law 1531 = .ok (.aload_n 2, 1) := dk_44 (dk_at dksL_law_61 7 rfl rfl)
theorem dL_law_1532 : decode cL_law 1532 = .ok (.aload_n 0, 1) := dk_42 (dk_at dksL_law_61 8 rfl rfl)
theorem dL_law_1533 : decode cL_law 1533 = .ok (.iload 5, 2) := dk_21 5 (dk_at dksL_law_61 9 rfl rfl)
theorem dL_law_1535 : decode cL_law 1535 = .ok (.iconst 1, 1) := dk_4 (dk_at dksL_law_61 11 rfl rfl)
theorem dL_law_1536 : decode cL_law 1536 = .ok (.iadd, 1) := dk_96 (dk_at dksL_law_61 12 rfl rfl)
theorem dL_law_1537 : decode cL_law 1537 = .ok (.iaload, 1) := dk_46 (dk_at dksL_law_61 13 rfl rfl)
theorem dL_law_1538 : decode cL_law 1538 = .ok (.invokevirtual 186, 3) := dk_182 0 186 (dk_at dksL_law_61 14 rfl rfl)
theorem dL_law_1541 : decode cL_law 1541 = .ok (.istore 7, 2) := dk_54 7 (dk_at dksL_law_61 17 rfl rfl)
theorem dL_law_1543 : decode cL_law 1543 = .ok (.aload_n 2, 1) := dk_44 (dk_at dksL_law_61 19 rfl rfl)
theorem dL_law_1544 : decode cL_law 1544 = .ok (.invokevirtual 107, 3) := dk_182 0 107 (dk_at dksL_law_61 20 rfl rfl)
theorem dL_law_1547 : decode cL_law 1547 = .ok (.iload 6, 2) := dk_21 6 (dk_at dksL_law_62 0 rfl rfl)
theorem dL_law_1549 : decode cL_law 1549 = .ok (.if_icmp .eq 5, 3) := dk_159 0 5 (dk_at dksL_law_62 2 rfl rfl)
theorem dL_law_1552 : decode cL_law 1552 = .ok (.iconst 0, 1) := dk_3 (dk_at dksL_law_62 5 rfl rfl)
theorem dL_law_1553 : decode cL_law 1553 = .ok (.ireturn, 1) := dk_172 (dk_at dksL_law_62 6 rfl rfl)
theorem dL_law_1554 : decode cL_law 1554 = .ok (.iload 6, 2) := dk_21 6 (dk_at dksL_law_62 7 rfl rfl)
theorem dL_law_1556 : decode cL_law 1556 = .ok (.ifCond .ne 15, 3) := dk_154 0 15 (dk_at dksL_law_62 9 rfl rfl)
theorem dL_law_1559 : decode cL_law 1559 = .ok (.aload_n 3, 1) := dk_45 (dk_at dksL_law_62 12 rfl rfl)
theorem dL_law_1560 : decode cL_law 1560 = .ok (.iconst 0, 1) := dk_3 (dk_at dksL_law_62 13 rfl rfl)
theorem dL_law_1561 : decode cL_law 1561 = .ok (.laload, 1) := dk_47 (dk_at dksL_law_62 14 rfl rfl)
theorem dL_law_1562 : decode cL_law 1562 = .ok (.iload 7, 2) := dk_21 7 (dk_at dksL_law_62 15 rfl rfl)
theorem dL_law_1564 : decode cL_law 1564 = .ok (.i2l, 1) := dk_133 (dk_at dksL_law_62 17 rfl rfl)
theorem dL_law_1565 : decode cL_law 1565 = .ok (.lcmp, 1) := dk_148 (dk_at dksL_law_62 18 rfl rfl)
theorem dL_law_1566 : decode cL_law 1566 = .ok (.ifCond .eq 5, 3) := dk_153 0 5 (dk_at dksL_law_62 19 rfl rfl)
theorem dL_law_1569 : decode cL_law 1569 = .ok (.iconst 0, 1) := dk_3 (dk_at dksL_law_62 22 rfl rfl)
theorem dL_law_1570 : decode cL_law 1570 = .ok (.ireturn, 1) := dk_172 (dk_at dksL_law_62 23 rfl rfl)
theorem dL_law_1571 : decode cL_law 1571 = .ok (.goto 60, 3) := dk_167 0 60 (dk_at dksL_law_63 0 rfl rfl)
theorem dL_law_1574 : decode cL_law 1574 = .ok (.aload_n 1, 1) := dk_43 (dk_at dksL_law_63 3 rfl rfl)
theorem dL_law_1575 : decode cL_law 1575 = .ok (.invokevirtual 187, 3) := dk_182 0 187 (dk_at dksL_law_63 4 rfl rfl)
theorem dL_law_1578 : decode cL_law 1578 = .ok (.aload_n 2, 1) := dk_44 (dk_at dksL_law_63 7 rfl rfl)
theorem dL_law_1579 : decode cL_law 1579 = .ok (.invokevirtual 190, 3) := dk_182 0 190 (dk_at dksL_law_63 8 rfl rfl)
theorem dL_law_1582 : decode cL_law 1582 = .ok (.if_icmp .eq 49, 3) := dk_159 0 49 (dk_at dksL_law_63 11 rfl rfl)
theorem dL_law_1585 : decode cL_law 1585 = .ok (.iconst 0, 1) := dk_3 (dk_at dksL_law_63 14 rfl rfl)
theorem dL_law_1586 : decode cL_law 1586 = .ok (.ireturn, 1) := dk_172 (dk_at dksL_law_63 15 rfl rfl)
theorem dL_law_1587 : decode cL_law 1587 = .ok (.aload_n 1, 1) := dk_43 (dk_at dksL_law_63 16 rfl rfl)
theorem dL_law_1588 : decode cL_law 1588 = .ok (.aload_n 3, 1) := dk_45 (dk_at dksL_law_63 17 rfl rfl)
theorem dL_law_1589 : decode cL_law 1589 = .ok (.invokestatic 191, 3) := dk_184 0 191 (dk_at dksL_law_63 18 rfl rfl)
theorem dL_law_1592 : decode cL_law 1592 = .ok (.istore 6, 2) := dk_54 6 (dk_at dksL_law_63 21 rfl rfl)
theorem dL_law_1594 : decode cL_law 1594 = .ok (.aload_n 2, 1) := dk_44 (dk_at dksL_law_63 23 rfl rfl)
theorem dL_law_1595 : decode cL_law 1595 = .ok (.invokevirtual 193, 3) := dk_182 0 193 (dk_at dksL_law_64 0 rfl rfl)
theorem dL_law_1598 : decode cL_law 1598 = .ok (.istore 7, 2) := dk_54 7 (dk_at dksL_law_64 3 rfl rfl)
theorem dL_law_1600 : decode cL_law 1600 = .ok (.aload_n 2, 1) := dk_44 (dk_at dksL_law_64 5 rfl rfl)
theorem dL_law_1601 : decode cL_law 1601 = .ok (.invokevirtual 107, 3) := dk_182 0 107 (dk_at dksL_law_64 6 rfl rfl)
theorem dL_law_1604 : decode cL_law 1604 = .ok (.iload 6, 2) := dk_21 6 (dk_at dksL_law_64 9 rfl rfl)
theorem dL_law_1606 : decode cL_law 1606 = .ok (.if_icmp .eq 5, 3) := dk_159 0 5 (dk_at dksL_law_64 11 rfl rfl)
theorem dL_law_1609 : decode cL_law 1609 = .ok (.iconst 0, 1) := dk_3 (dk_at dksL_law_64 14 rfl rfl)
theorem dL_law_1610 : decode cL_law 1610 = .ok (.ireturn, 1) := dk_172 (dk_at dksL_law_64 15 rfl rfl)
theorem dL_law_1611 : decode cL_law 1611 = .ok (.iload 6, 2) := dk_21 6 (dk_at dksL_law_64 16 rfl rfl)
theorem dL_law_1613 : decode cL_law 1613 = .ok (.ifCond .ne 15, 3) := dk_154 0 15 (dk_at dksL_law_64 18 rfl rfl)
theorem dL_law_1616 : decode cL_law 1616 = .ok (.aload_n 3, 1) := dk_45 (dk_at dksL_law_64 21 rfl rfl)
theorem dL_law_1617 : decode cL_law 1617 = .ok (.iconst 0, 1) := dk_3 (dk_at dksL_law_64 22 rfl rfl)
theorem dL_law_1618 : decode cL_law 1618 = .ok (.laload, 1) := dk_47 (dk_at dksL_law_64 23 rfl rfl)
theorem dL_law_1619 : decode cL_law 1619 = .ok (.iload 7, 2) := dk_21 7 (dk_at dksL_law_65 0 rfl rfl)
theorem dL_law_1621 : decode cL_law 1621 = .ok (.i2l, 1) := dk_133 (dk_at dksL_law_65 2 rfl rfl)
theorem dL_law_1622 : decode cL_law 1622 = .ok (.lcmp, 1) := dk_148 (dk_at dksL_law_65 3 rfl rfl)
theorem dL_law_1623 : decode cL_law 1623 = .ok (.ifCond .eq 5, 3) := dk_153 0 5 (dk_at dksL_law_65 4 rfl rfl)
theorem dL_law_1626 : decode cL_law 1626 = .ok (.iconst 0, 1) := dk_3 (dk_at dksL_law_65 7 rfl rfl)
theorem dL_law_1627 : decode cL_law 1627 = .ok (.ireturn, 1) := dk_172 (dk_at dksL_law_65 8 rfl rfl)
theorem dL_law_1628 : decode cL_law 1628 = .ok (.goto 3, 3) := dk_167 0 3 (dk_at dksL_law_65 9 rfl rfl)
theorem dL_law_1631 : decode cL_law 1631 = .ok (.iinc 5 4, 3) := dk_132 5 4 (dk_at dksL_law_65 12 rfl rfl)
theorem dL_law_1634 : decode cL_law 1634 = .ok (.goto (-1606), 3) := dk_167 249 186 (dk_at dksL_law_65 15 rfl rfl)
theorem dL_law_1637 : decode cL_law 1637 = .ok (.iconst 1, 1) := dk_4 (dk_at dksL_law_65 18 rfl rfl)
theorem dL_law_1638 : decode cL_law 1638 = .ok (.ireturn, 1) := dk_172 (dk_at dksL_law_65 19 rfl rfl)
