/-! SharedSheetLaw -/
set_option maxRecDepth 100000
def RX0 : String := "SharedSheetLaw"
abbrev cX0_make : ByteArray := method_3_code
def yX0_make : MethodName := ⟨RX0, "make", "(LSharedSheet;IZI[J)I"⟩
def dkwX0_make_1 : List UInt8 := [172]
abbrev dktX0_make_1 : List UInt8 := dkwX0_make_1 ++ []
def dkwX0_make_0 : List UInt8 := [25, 4, 3, 42, 27, 28, 29, 182, 0, 7, 133, 80, 167, 0, 11, 58, 5, 4, 172, 58, 5, 5, 172, 3]
abbrev dktX0_make_0 : List UInt8 := dkwX0_make_0 ++ dktX0_make_1
theorem dksX0_make_0 : cX0_make.data.toList.drop 0 = dktX0_make_0 := by decide +kernel
theorem dksX0_make_1 : cX0_make.data.toList.drop 24 = dktX0_make_1 := dk_seg dksX0_make_0 24 rfl rfl
theorem dX0_make_0 : decode cX0_make 0 = .ok (.aload 4, 2) := dk_25 4 (dk_at dksX0_make_0 0 rfl rfl)
theorem dX0_make_2 : decode cX0_make 2 = .ok (.iconst 0, 1) := dk_3 (dk_at dksX0_make_0 2 rfl rfl)
theorem dX0_make_3 : decode cX0_make 3 = .ok (.aload_n 0, 1) := dk_42 (dk_at dksX0_make_0 3 rfl rfl)
theorem dX0_make_4 : decode cX0_make 4 = .ok (.iload_n 1, 1) := dk_27 (dk_at dksX0_make_0 4 rfl rfl)
theorem dX0_make_5 : decode cX0_make 5 = .ok (.iload_n 2, 1) := dk_28 (dk_at dksX0_make_0 5 rfl rfl)
theorem dX0_make_6 : decode cX0_make 6 = .ok (.iload_n 3, 1) := dk_29 (dk_at dksX0_make_0 6 rfl rfl)
theorem dX0_make_7 : decode cX0_make 7 = .ok (.invokevirtual 7, 3) := dk_182 0 7 (dk_at dksX0_make_0 7 rfl rfl)
theorem dX0_make_10 : decode cX0_make 10 = .ok (.i2l, 1) := dk_133 (dk_at dksX0_make_0 10 rfl rfl)
theorem dX0_make_11 : decode cX0_make 11 = .ok (.lastore, 1) := dk_80 (dk_at dksX0_make_0 11 rfl rfl)
theorem dX0_make_12 : decode cX0_make 12 = .ok (.goto 11, 3) := dk_167 0 11 (dk_at dksX0_make_0 12 rfl rfl)
theorem dX0_make_15 : decode cX0_make 15 = .ok (.astore 5, 2) := dk_58 5 (dk_at dksX0_make_0 15 rfl rfl)
theorem dX0_make_17 : decode cX0_make 17 = .ok (.iconst 1, 1) := dk_4 (dk_at dksX0_make_0 17 rfl rfl)
theorem dX0_make_18 : decode cX0_make 18 = .ok (.ireturn, 1) := dk_172 (dk_at dksX0_make_0 18 rfl rfl)
theorem dX0_make_19 : decode cX0_make 19 = .ok (.astore 5, 2) := dk_58 5 (dk_at dksX0_make_0 19 rfl rfl)
theorem dX0_make_21 : decode cX0_make 21 = .ok (.iconst 2, 1) := dk_5 (dk_at dksX0_make_0 21 rfl rfl)
theorem dX0_make_22 : decode cX0_make 22 = .ok (.ireturn, 1) := dk_172 (dk_at dksX0_make_0 22 rfl rfl)
theorem dX0_make_23 : decode cX0_make 23 = .ok (.iconst 0, 1) := dk_3 (dk_at dksX0_make_0 23 rfl rfl)
theorem dX0_make_24 : decode cX0_make 24 = .ok (.ireturn, 1) := dk_172 (dk_at dksX0_make_1 0 rfl rfl)
abbrev cX0_move : ByteArray := method_4_code
def yX0_move : MethodName := ⟨RX0, "move", "(LSharedSheet;IZII[J)I"⟩
def dkwX0_move_1 : List UInt8 := [172, 3, 172]
abbrev dktX0_move_1 : List UInt8 := dkwX0_move_1 ++ []
def dkwX0_move_0 : List UInt8 := [25, 5, 3, 42, 27, 28, 29, 21, 4, 182, 0, 17, 133, 80, 167, 0, 11, 58, 6, 4, 172, 58, 6, 5]
abbrev dktX0_move_0 : List UInt8 := dkwX0_move_0 ++ dktX0_move_1
theorem dksX0_move_0 : cX0_move.data.toList.drop 0 = dktX0_move_0 := by decide +kernel
theorem dksX0_move_1 : cX0_move.data.toList.drop 24 = dktX0_move_1 := dk_seg dksX0_move_0 24 rfl rfl
theorem dX0_move_0 : decode cX0_move 0 = .ok (.aload 5, 2) := dk_25 5 (dk_at dksX0_move_0 0 rfl rfl)
theorem dX0_move_2 : decode cX0_move 2 = .ok (.iconst 0, 1) := dk_3 (dk_at dksX0_move_0 2 rfl rfl)
theorem dX0_move_3 : decode cX0_move 3 = .ok (.aload_n 0, 1) := dk_42 (dk_at dksX0_move_0 3 rfl rfl)
theorem dX0_move_4 : decode cX0_move 4 = .ok (.iload_n 1, 1) := dk_27 (dk_at dksX0_move_0 4 rfl rfl)
theorem dX0_move_5 : decode cX0_move 5 = .ok (.iload_n 2, 1) := dk_28 (dk_at dksX0_move_0 5 rfl rfl)
theorem dX0_move_6 : decode cX0_move 6 = .ok (.iload_n 3, 1) := dk_29 (dk_at dksX0_move_0 6 rfl rfl)
theorem dX0_move_7 : decode cX0_move 7 = .ok (.iload 4, 2) := dk_21 4 (dk_at dksX0_move_0 7 rfl rfl)
theorem dX0_move_9 : decode cX0_move 9 = .ok (.invokevirtual 17, 3) := dk_182 0 17 (dk_at dksX0_move_0 9 rfl rfl)
theorem dX0_move_12 : decode cX0_move 12 = .ok (.i2l, 1) := dk_133 (dk_at dksX0_move_0 12 rfl rfl)
theorem dX0_move_13 : decode cX0_move 13 = .ok (.lastore, 1) := dk_80 (dk_at dksX0_move_0 13 rfl rfl)
theorem dX0_move_14 : decode cX0_move 14 = .ok (.goto 11, 3) := dk_167 0 11 (dk_at dksX0_move_0 14 rfl rfl)
theorem dX0_move_17 : decode cX0_move 17 = .ok (.astore 6, 2) := dk_58 6 (dk_at dksX0_move_0 17 rfl rfl)
theorem dX0_move_19 : decode cX0_move 19 = .ok (.iconst 1, 1) := dk_4 (dk_at dksX0_move_0 19 rfl rfl)
theorem dX0_move_20 : decode cX0_move 20 = .ok (.ireturn, 1) := dk_172 (dk_at dksX0_move_0 20 rfl rfl)
theorem dX0_move_21 : decode cX0_move 21 = .ok (.astore 6, 2) := dk_58 6 (dk_at dksX0_move_0 21 rfl rfl)
theorem dX0_move_23 : decode cX0_move 23 = .ok (.iconst 2, 1) := dk_5 (dk_at dksX0_move_0 23 rfl rfl)
theorem dX0_move_24 : decode cX0_move 24 = .ok (.ireturn, 1) := dk_172 (dk_at dksX0_move_1 0 rfl rfl)
theorem dX0_move_25 : decode cX0_move 25 = .ok (.iconst 0, 1) := dk_3 (dk_at dksX0_move_1 1 rfl rfl)
theorem dX0_move_26 : decode cX0_move 26 = .ok (.ireturn, 1) := dk_172 (dk_at dksX0_move_1 2 rfl rfl)
abbrev cX0_remove : ByteArray := method_5_code
def yX0_remove : MethodName := ⟨RX0, "remove", "(LSharedSheet;IZI[J)I"⟩
def dkwX0_remove_1 : List UInt8 := [172]
abbrev dktX0_remove_1 : List UInt8 := dkwX0_remove_1 ++ []
def dkwX0_remove_0 : List UInt8 := [25, 4, 3, 42, 27, 28, 29, 182, 0, 21, 133, 80, 167, 0, 11, 58, 5, 4, 172, 58, 5, 5, 172, 3]
abbrev dktX0_remove_0 : List UInt8 := dkwX0_remove_0 ++ dktX0_remove_1
theorem dksX0_remove_0 : cX0_remove.data.toList.drop 0 = dktX0_remove_0 := by decide +kernel
theorem dksX0_remove_1 : cX0_remove.data.toList.drop 24 = dktX0_remove_1 := dk_seg dksX0_remove_0 24 rfl rfl
theorem dX0_remove_0 : decode cX0_remove 0 = .ok (.aload 4, 2) := dk_25 4 (dk_at dksX0_remove_0 0 rfl rfl)
theorem dX0_remove_2 : decode cX0_remove 2 = .ok (.iconst 0, 1) := dk_3 (dk_at dksX0_remove_0 2 rfl rfl)
theorem dX0_remove_3 : decode cX0_remove 3 = .ok (.aload_n 0, 1) := dk_42 (dk_at dksX0_remove_0 3 rfl rfl)
theorem dX0_remove_4 : decode cX0_remove 4 = .ok (.iload_n 1, 1) := dk_27 (dk_at dksX0_remove_0 4 rfl rfl)
theorem dX0_remove_5 : decode cX0_remove 5 = .ok (.iload_n 2, 1) := dk_28 (dk_at dksX0_remove_0 5 rfl rfl)
theorem dX0_remove_6 : decode cX0_remove 6 = .ok (.iload_n 3, 1) := dk_29 (dk_at dksX0_remove_0 6 rfl rfl)
theorem dX0_remove_7 : decode cX0_remove 7 = .ok (.invokevirtual 21, 3) := dk_182 0 21 (dk_at dksX0_remove_0 7 rfl rfl)
theorem dX0_remove_10 : decode cX0_remove 10 = .ok (.i2l, 1) := dk_133 (dk_at dksX0_remove_0 10 rfl rfl)
theorem dX0_remove_11 : decode cX0_remove 11 = .ok (.lastore, 1) := dk_80 (dk_at dksX0_remove_0 11 rfl rfl)
theorem dX0_remove_12 : decode cX0_remove 12 = .ok (.goto 11, 3) := dk_167 0 11 (dk_at dksX0_remove_0 12 rfl rfl)
theorem dX0_remove_15 : decode cX0_remove 15 = .ok (.astore 5, 2) := dk_58 5 (dk_at dksX0_remove_0 15 rfl rfl)
theorem dX0_remove_17 : decode cX0_remove 17 = .ok (.iconst 1, 1) := dk_4 (dk_at dksX0_remove_0 17 rfl rfl)
theorem dX0_remove_18 : decode cX0_remove 18 = .ok (.ireturn, 1) := dk_172 (dk_at dksX0_remove_0 18 rfl rfl)
theorem dX0_remove_19 : decode cX0_remove 19 = .ok (.astore 5, 2) := dk_58 5 (dk_at dksX0_remove_0 19 rfl rfl)
theorem dX0_remove_21 : decode cX0_remove 21 = .ok (.iconst 2, 1) := dk_5 (dk_at dksX0_remove_0 21 rfl rfl)
theorem dX0_remove_22 : decode cX0_remove 22 = .ok (.ireturn, 1) := dk_172 (dk_at dksX0_remove_0 22 rfl rfl)
theorem dX0_remove_23 : decode cX0_remove 23 = .ok (.iconst 0, 1) := dk_3 (dk_at dksX0_remove_0 23 rfl rfl)
theorem dX0_remove_24 : decode cX0_remove 24 = .ok (.ireturn, 1) := dk_172 (dk_at dksX0_remove_1 0 rfl rfl)
abbrev cX0_shown : ByteArray := method_6_code
def yX0_shown : MethodName := ⟨RX0, "shown", "(LSharedSheet;IZ[J)I"⟩
def dkwX0_shown_0 : List UInt8 := [45, 3, 42, 27, 28, 182, 0, 24, 133, 80, 167, 0, 7, 58, 4, 4, 172, 3, 172]
abbrev dktX0_shown_0 : List UInt8 := dkwX0_shown_0 ++ []
theorem dksX0_shown_0 : cX0_shown.data.toList.drop 0 = dktX0_shown_0 := by decide +kernel
theorem dX0_shown_0 : decode cX0_shown 0 = .ok (.aload_n 3, 1) := dk_45 (dk_at dksX0_shown_0 0 rfl rfl)
theorem dX0_shown_1 : decode cX0_shown 1 = .ok (.iconst 0, 1) := dk_3 (dk_at dksX0_shown_0 1 rfl rfl)
theorem dX0_shown_2 : decode cX0_shown 2 = .ok (.aload_n 0, 1) := dk_42 (dk_at dksX0_shown_0 2 rfl rfl)
theorem dX0_shown_3 : decode cX0_shown 3 = .ok (.iload_n 1, 1) := dk_27 (dk_at dksX0_shown_0 3 rfl rfl)
theorem dX0_shown_4 : decode cX0_shown 4 = .ok (.iload_n 2, 1) := dk_28 (dk_at dksX0_shown_0 4 rfl rfl)
theorem dX0_shown_5 : decode cX0_shown 5 = .ok (.invokevirtual 24, 3) := dk_182 0 24 (dk_at dksX0_shown_0 5 rfl rfl)
theorem dX0_shown_8 : decode cX0_shown 8 = .ok (.i2l, 1) := dk_133 (dk_at dksX0_shown_0 8 rfl rfl)
theorem dX0_shown_9 : decode cX0_shown 9 = .ok (.lastore, 1) := dk_80 (dk_at dksX0_shown_0 9 rfl rfl)
theorem dX0_shown_10 : decode cX0_shown 10 = .ok (.goto 7, 3) := dk_167 0 7 (dk_at dksX0_shown_0 10 rfl rfl)
theorem dX0_shown_13 : decode cX0_shown 13 = .ok (.astore 4, 2) := dk_58 4 (dk_at dksX0_shown_0 13 rfl rfl)
theorem dX0_shown_15 : decode cX0_shown 15 = .ok (.iconst 1, 1) := dk_4 (dk_at dksX0_shown_0 15 rfl rfl)
theorem dX0_shown_16 : decode cX0_shown 16 = .ok (.ireturn, 1) := dk_172 (dk_at dksX0_shown_0 16 rfl rfl)
theorem dX0_shown_17 : decode cX0_shown 17 = .ok (.iconst 0, 1) := dk_3 (dk_at dksX0_shown_0 17 rfl rfl)
theorem dX0_shown_18 : decode cX0_shown 18 = .ok (.ireturn, 1) := dk_172 (dk_at dksX0_shown_0 18 rfl rfl)
abbrev cX0_line : ByteArray := method_7_code
def yX0_line : MethodName := ⟨RX0, "line", "(LSharedSheet;IZI[J)I"⟩
def dkwX0_line_0 : List UInt8 := [25, 4, 3, 42, 27, 28, 29, 182, 0, 28, 133, 80, 167, 0, 7, 58, 5, 4, 172, 3, 172]
abbrev dktX0_line_0 : List UInt8 := dkwX0_line_0 ++ []
theorem dksX0_line_0 : cX0_line.data.toList.drop 0 = dktX0_line_0 := by decide +kernel
theorem dX0_line_0 : decode cX0_line 0 = .ok (.aload 4, 2) := dk_25 4 (dk_at dksX0_line_0 0 rfl rfl)
theorem dX0_line_2 : decode cX0_line 2 = .ok (.iconst 0, 1) := dk_3 (dk_at dksX0_line_0 2 rfl rfl)
theorem dX0_line_3 : decode cX0_line 3 = .ok (.aload_n 0, 1) := dk_42 (dk_at dksX0_line_0 3 rfl rfl)
theorem dX0_line_4 : decode cX0_line 4 = .ok (.iload_n 1, 1) := dk_27 (dk_at dksX0_line_0 4 rfl rfl)
theorem dX0_line_5 : decode cX0_line 5 = .ok (.iload_n 2, 1) := dk_28 (dk_at dksX0_line_0 5 rfl rfl)
theorem dX0_line_6 : decode cX0_line 6 = .ok (.iload_n 3, 1) := dk_29 (dk_at dksX0_line_0 6 rfl rfl)
theorem dX0_line_7 : decode cX0_line 7 = .ok (.invokevirtual 28, 3) := dk_182 0 28 (dk_at dksX0_line_0 7 rfl rfl)
theorem dX0_line_10 : decode cX0_line 10 = .ok (.i2l, 1) := dk_133 (dk_at dksX0_line_0 10 rfl rfl)
theorem dX0_line_11 : decode cX0_line 11 = .ok (.lastore, 1) := dk_80 (dk_at dksX0_line_0 11 rfl rfl)
theorem dX0_line_12 : decode cX0_line 12 = .ok (.goto 7, 3) := dk_167 0 7 (dk_at dksX0_line_0 12 rfl rfl)
theorem dX0_line_15 : decode cX0_line 15 = .ok (.astore 5, 2) := dk_58 5 (dk_at dksX0_line_0 15 rfl rfl)
theorem dX0_line_17 : decode cX0_line 17 = .ok (.iconst 1, 1) := dk_4 (dk_at dksX0_line_0 17 rfl rfl)
theorem dX0_line_18 : decode cX0_line 18 = .ok (.ireturn, 1) := dk_172 (dk_at dksX0_line_0 18 rfl rfl)
theorem dX0_line_19 : decode cX0_line 19 = .ok (.iconst 0, 1) := dk_3 (dk_at dksX0_line_0 19 rfl rfl)
theorem dX0_line_20 : decode cX0_line 20 = .ok (.ireturn, 1) := dk_172 (dk_at dksX0_line_0 20 rfl rfl)
abbrev cX0_position : ByteArray := method_8_code
def yX0_position : MethodName := ⟨RX0, "position", "(LSharedSheet;IZI[J)I"⟩
def dkwX0_position_1 : List UInt8 := [172]
abbrev dktX0_position_1 : List UInt8 := dkwX0_position_1 ++ []
def dkwX0_position_0 : List UInt8 := [25, 4, 3, 42, 27, 28, 29, 182, 0, 31, 133, 80, 167, 0, 11, 58, 5, 4, 172, 58, 5, 5, 172, 3]
abbrev dktX0_position_0 : List UInt8 := dkwX0_position_0 ++ dktX0_position_1
theorem dksX0_position_0 : cX0_position.data.toList.drop 0 = dktX0_position_0 := by decide +kernel
theorem dksX0_position_1 : cX0_position.data.toList.drop 24 = dktX0_position_1 := dk_seg dksX0_position_0 24 rfl rfl
theorem dX0_position_0 : decode cX0_position 0 = .ok (.aload 4, 2) := dk_25 4 (dk_at dksX0_position_0 0 rfl rfl)
theorem dX0_position_2 : decode cX0_position 2 = .ok (.iconst 0, 1) := dk_3 (dk_at dksX0_position_0 2 rfl rfl)
theorem dX0_position_3 : decode cX0_position 3 = .ok (.aload_n 0, 1) := dk_42 (dk_at dksX0_position_0 3 rfl rfl)
theorem dX0_position_4 : decode cX0_position 4 = .ok (.iload_n 1, 1) := dk_27 (dk_at dksX0_position_0 4 rfl rfl)
theorem dX0_position_5 : decode cX0_position 5 = .ok (.iload_n 2, 1) := dk_28 (dk_at dksX0_position_0 5 rfl rfl)
theorem dX0_position_6 : decode cX0_position 6 = .ok (.iload_n 3, 1) := dk_29 (dk_at dksX0_position_0 6 rfl rfl)
theorem dX0_position_7 : decode cX0_position 7 = .ok (.invokevirtual 31, 3) := dk_182 0 31 (dk_at dksX0_position_0 7 rfl rfl)
theorem dX0_position_10 : decode cX0_position 10 = .ok (.i2l, 1) := dk_133 (dk_at dksX0_position_0 10 rfl rfl)
theorem dX0_position_11 : decode cX0_position 11 = .ok (.lastore, 1) := dk_80 (dk_at dksX0_position_0 11 rfl rfl)
theorem dX0_position_12 : decode cX0_position 12 = .ok (.goto 11, 3) := dk_167 0 11 (dk_at dksX0_position_0 12 rfl rfl)
theorem dX0_position_15 : decode cX0_position 15 = .ok (.astore 5, 2) := dk_58 5 (dk_at dksX0_position_0 15 rfl rfl)
theorem dX0_position_17 : decode cX0_position 17 = .ok (.iconst 1, 1) := dk_4 (dk_at dksX0_position_0 17 rfl rfl)
theorem dX0_position_18 : decode cX0_position 18 = .ok (.ireturn, 1) := dk_172 (dk_at dksX0_position_0 18 rfl rfl)
theorem dX0_position_19 : decode cX0_position 19 = .ok (.astore 5, 2) := dk_58 5 (dk_at dksX0_position_0 19 rfl rfl)
theorem dX0_position_21 : decode cX0_position 21 = .ok (.iconst 2, 1) := dk_5 (dk_at dksX0_position_0 21 rfl rfl)
theorem dX0_position_22 : decode cX0_position 22 = .ok (.ireturn, 1) := dk_172 (dk_at dksX0_position_0 22 rfl rfl)
theorem dX0_position_23 : decode cX0_position 23 = .ok (.iconst 0, 1) := dk_3 (dk_at dksX0_position_0 23 rfl rfl)
theorem dX0_position_24 : decode cX0_position 24 = .ok (.ireturn, 1) := dk_172 (dk_at dksX0_position_1 0 rfl rfl)
abbrev cX0_place : ByteArray := method_9_code
def yX0_place : MethodName := ⟨RX0, "place", "(LSharedSheet;IZI[J)I"⟩
def dkwX0_place_1 : List UInt8 := [172]
abbrev dktX0_place_1 : List UInt8 := dkwX0_place_1 ++ []
def dkwX0_place_0 : List UInt8 := [25, 4, 3, 42, 27, 28, 29, 182, 0, 36, 133, 80, 167, 0, 11, 58, 5, 4, 172, 58, 5, 5, 172, 3]
abbrev dktX0_place_0 : List UInt8 := dkwX0_place_0 ++ dktX0_place_1
theorem dksX0_place_0 : cX0_place.data.toList.drop 0 = dktX0_place_0 := by decide +kernel
theorem dksX0_place_1 : cX0_place.data.toList.drop 24 = dktX0_place_1 := dk_seg dksX0_place_0 24 rfl rfl
theorem dX0_place_0 : decode cX0_place 0 = .ok (.aload 4, 2) := dk_25 4 (dk_at dksX0_place_0 0 rfl rfl)
theorem dX0_place_2 : decode cX0_place 2 = .ok (.iconst 0, 1) := dk_3 (dk_at dksX0_place_0 2 rfl rfl)
theorem dX0_place_3 : decode cX0_place 3 = .ok (.aload_n 0, 1) := dk_42 (dk_at dksX0_place_0 3 rfl rfl)
theorem dX0_place_4 : decode cX0_place 4 = .ok (.iload_n 1, 1) := dk_27 (dk_at dksX0_place_0 4 rfl rfl)
theorem dX0_place_5 : decode cX0_place 5 = .ok (.iload_n 2, 1) := dk_28 (dk_at dksX0_place_0 5 rfl rfl)
theorem dX0_place_6 : decode cX0_place 6 = .ok (.iload_n 3, 1) := dk_29 (dk_at dksX0_place_0 6 rfl rfl)
theorem dX0_place_7 : decode cX0_place 7 = .ok (.invokevirtual 36, 3) := dk_182 0 36 (dk_at dksX0_place_0 7 rfl rfl)
theorem dX0_place_10 : decode cX0_place 10 = .ok (.i2l, 1) := dk_133 (dk_at dksX0_place_0 10 rfl rfl)
theorem dX0_place_11 : decode cX0_place 11 = .ok (.lastore, 1) := dk_80 (dk_at dksX0_place_0 11 rfl rfl)
theorem dX0_place_12 : decode cX0_place 12 = .ok (.goto 11, 3) := dk_167 0 11 (dk_at dksX0_place_0 12 rfl rfl)
theorem dX0_place_15 : decode cX0_place 15 = .ok (.astore 5, 2) := dk_58 5 (dk_at dksX0_place_0 15 rfl rfl)
theorem dX0_place_17 : decode cX0_place 17 = .ok (.iconst 1, 1) := dk_4 (dk_at dksX0_place_0 17 rfl rfl)
theorem dX0_place_18 : decode cX0_place 18 = .ok (.ireturn, 1) := dk_172 (dk_at dksX0_place_0 18 rfl rfl)
theorem dX0_place_19 : decode cX0_place 19 = .ok (.astore 5, 2) := dk_58 5 (dk_at dksX0_place_0 19 rfl rfl)
theorem dX0_place_21 : decode cX0_place 21 = .ok (.iconst 2, 1) := dk_5 (dk_at dksX0_place_0 21 rfl rfl)
theorem dX0_place_22 : decode cX0_place 22 = .ok (.ireturn, 1) := dk_172 (dk_at dksX0_place_0 22 rfl rfl)
theorem dX0_place_23 : decode cX0_place 23 = .ok (.iconst 0, 1) := dk_3 (dk_at dksX0_place_0 23 rfl rfl)
theorem dX0_place_24 : decode cX0_place 24 = .ok (.ireturn, 1) := dk_172 (dk_at dksX0_place_1 0 rfl rfl)
abbrev cX0_setNumber : ByteArray := method_10_code
def yX0_setNumber : MethodName := ⟨RX0, "setNumber", "(LSharedSheet;IIII[J)I"⟩
def dkwX0_setNumber_1 : List UInt8 := [172, 58, 6, 6, 172, 3, 172]
abbrev dktX0_setNumber_1 : List UInt8 := dkwX0_setNumber_1 ++ []
def dkwX0_setNumber_0 : List UInt8 := [25, 5, 3, 42, 27, 28, 29, 21, 4, 182, 0, 39, 133, 80, 167, 0, 15, 58, 6, 4, 172, 58, 6, 5]
abbrev dktX0_setNumber_0 : List UInt8 := dkwX0_setNumber_0 ++ dktX0_setNumber_1
theorem dksX0_setNumber_0 : cX0_setNumber.data.toList.drop 0 = dktX0_setNumber_0 := by decide +kernel
theorem dksX0_setNumber_1 : cX0_setNumber.data.toList.drop 24 = dktX0_setNumber_1 := dk_seg dksX0_setNumber_0 24 rfl rfl
theorem dX0_setNumber_0 : decode cX0_setNumber 0 = .ok (.aload 5, 2) := dk_25 5 (dk_at dksX0_setNumber_0 0 rfl rfl)
theorem dX0_setNumber_2 : decode cX0_setNumber 2 = .ok (.iconst 0, 1) := dk_3 (dk_at dksX0_setNumber_0 2 rfl rfl)
theorem dX0_setNumber_3 : decode cX0_setNumber 3 = .ok (.aload_n 0, 1) := dk_42 (dk_at dksX0_setNumber_0 3 rfl rfl)
theorem dX0_setNumber_4 : decode cX0_setNumber 4 = .ok (.iload_n 1, 1) := dk_27 (dk_at dksX0_setNumber_0 4 rfl rfl)
theorem dX0_setNumber_5 : decode cX0_setNumber 5 = .ok (.iload_n 2, 1) := dk_28 (dk_at dksX0_setNumber_0 5 rfl rfl)
theorem dX0_setNumber_6 : decode cX0_setNumber 6 = .ok (.iload_n 3, 1) := dk_29 (dk_at dksX0_setNumber_0 6 rfl rfl)
theorem dX0_setNumber_7 : decode cX0_setNumber 7 = .ok (.iload 4, 2) := dk_21 4 (dk_at dksX0_setNumber_0 7 rfl rfl)
theorem dX0_setNumber_9 : decode cX0_setNumber 9 = .ok (.invokevirtual 39, 3) := dk_182 0 39 (dk_at dksX0_setNumber_0 9 rfl rfl)
theorem dX0_setNumber_12 : decode cX0_setNumber 12 = .ok (.i2l, 1) := dk_133 (dk_at dksX0_setNumber_0 12 rfl rfl)
theorem dX0_setNumber_13 : decode cX0_setNumber 13 = .ok (.lastore, 1) := dk_80 (dk_at dksX0_setNumber_0 13 rfl rfl)
theorem dX0_setNumber_14 : decode cX0_setNumber 14 = .ok (.goto 15, 3) := dk_167 0 15 (dk_at dksX0_setNumber_0 14 rfl rfl)
theorem dX0_setNumber_17 : decode cX0_setNumber 17 = .ok (.astore 6, 2) := dk_58 6 (dk_at dksX0_setNumber_0 17 rfl rfl)
theorem dX0_setNumber_19 : decode cX0_setNumber 19 = .ok (.iconst 1, 1) := dk_4 (dk_at dksX0_setNumber_0 19 rfl rfl)
theorem dX0_setNumber_20 : decode cX0_setNumber 20 = .ok (.ireturn, 1) := dk_172 (dk_at dksX0_setNumber_0 20 rfl rfl)
theorem dX0_setNumber_21 : decode cX0_setNumber 21 = .ok (.astore 6, 2) := dk_58 6 (dk_at dksX0_setNumber_0 21 rfl rfl)
theorem dX0_setNumber_23 : decode cX0_setNumber 23 = .ok (.iconst 2, 1) := dk_5 (dk_at dksX0_setNumber_0 23 rfl rfl)
theorem dX0_setNumber_24 : decode cX0_setNumber 24 = .ok (.ireturn, 1) := dk_172 (dk_at dksX0_setNumber_1 0 rfl rfl)
theorem dX0_setNumber_25 : decode cX0_setNumber 25 = .ok (.astore 6, 2) := dk_58 6 (dk_at dksX0_setNumber_1 1 rfl rfl)
theorem dX0_setNumber_27 : decode cX0_setNumber 27 = .ok (.iconst 3, 1) := dk_6 (dk_at dksX0_setNumber_1 3 rfl rfl)
theorem dX0_setNumber_28 : decode cX0_setNumber 28 = .ok (.ireturn, 1) := dk_172 (dk_at dksX0_setNumber_1 4 rfl rfl)
theorem dX0_setNumber_29 : decode cX0_setNumber 29 = .ok (.iconst 0, 1) := dk_3 (dk_at dksX0_setNumber_1 5 rfl rfl)
theorem dX0_setNumber_30 : decode cX0_setNumber 30 = .ok (.ireturn, 1) := dk_172 (dk_at dksX0_setNumber_1 6 rfl rfl)
abbrev cX0_clearCell : ByteArray := method_11_code
def yX0_clearCell : MethodName := ⟨RX0, "clearCell", "(LSharedSheet;III[J)I"⟩
def dkwX0_clearCell_1 : List UInt8 := [172]
abbrev dktX0_clearCell_1 : List UInt8 := dkwX0_clearCell_1 ++ []
def dkwX0_clearCell_0 : List UInt8 := [25, 4, 3, 42, 27, 28, 29, 182, 0, 43, 133, 80, 167, 0, 11, 58, 5, 4, 172, 58, 5, 5, 172, 3]
abbrev dktX0_clearCell_0 : List UInt8 := dkwX0_clearCell_0 ++ dktX0_clearCell_1
theorem dksX0_clearCell_0 : cX0_clearCell.data.toList.drop 0 = dktX0_clearCell_0 := by decide +kernel
theorem dksX0_clearCell_1 : cX0_clearCell.data.toList.drop 24 = dktX0_clearCell_1 := dk_seg dksX0_clearCell_0 24 rfl rfl
theorem dX0_clearCell_0 : decode cX0_clearCell 0 = .ok (.aload 4, 2) := dk_25 4 (dk_at dksX0_clearCell_0 0 rfl rfl)
theorem dX0_clearCell_2 : decode cX0_clearCell 2 = .ok (.iconst 0, 1) := dk_3 (dk_at dksX0_clearCell_0 2 rfl rfl)
theorem dX0_clearCell_3 : decode cX0_clearCell 3 = .ok (.aload_n 0, 1) := dk_42 (dk_at dksX0_clearCell_0 3 rfl rfl)
theorem dX0_clearCell_4 : decode cX0_clearCell 4 = .ok (.iload_n 1, 1) := dk_27 (dk_at dksX0_clearCell_0 4 rfl rfl)
theorem dX0_clearCell_5 : decode cX0_clearCell 5 = .ok (.iload_n 2, 1) := dk_28 (dk_at dksX0_clearCell_0 5 rfl rfl)
theorem dX0_clearCell_6 : decode cX0_clearCell 6 = .ok (.iload_n 3, 1) := dk_29 (dk_at dksX0_clearCell_0 6 rfl rfl)
theorem dX0_clearCell_7 : decode cX0_clearCell 7 = .ok (.invokevirtual 43, 3) := dk_182 0 43 (dk_at dksX0_clearCell_0 7 rfl rfl)
theorem dX0_clearCell_10 : decode cX0_clearCell 10 = .ok (.i2l, 1) := dk_133 (dk_at dksX0_clearCell_0 10 rfl rfl)
theorem dX0_clearCell_11 : decode cX0_clearCell 11 = .ok (.lastore, 1) := dk_80 (dk_at dksX0_clearCell_0 11 rfl rfl)
theorem dX0_clearCell_12 : decode cX0_clearCell 12 = .ok (.goto 11, 3) := dk_167 0 11 (dk_at dksX0_clearCell_0 12 rfl rfl)
theorem dX0_clearCell_15 : decode cX0_clearCell 15 = .ok (.astore 5, 2) := dk_58 5 (dk_at dksX0_clearCell_0 15 rfl rfl)
theorem dX0_clearCell_17 : decode cX0_clearCell 17 = .ok (.iconst 1, 1) := dk_4 (dk_at dksX0_clearCell_0 17 rfl rfl)
theorem dX0_clearCell_18 : decode cX0_clearCell 18 = .ok (.ireturn, 1) := dk_172 (dk_at dksX0_clearCell_0 18 rfl rfl)
theorem dX0_clearCell_19 : decode cX0_clearCell 19 = .ok (.astore 5, 2) := dk_58 5 (dk_at dksX0_clearCell_0 19 rfl rfl)
theorem dX0_clearCell_21 : decode cX0_clearCell 21 = .ok (.iconst 2, 1) := dk_5 (dk_at dksX0_clearCell_0 21 rfl rfl)
theorem dX0_clearCell_22 : decode cX0_clearCell 22 = .ok (.ireturn, 1) := dk_172 (dk_at dksX0_clearCell_0 22 rfl rfl)
theorem dX0_clearCell_23 : decode cX0_clearCell 23 = .ok (.iconst 0, 1) := dk_3 (dk_at dksX0_clearCell_0 23 rfl rfl)
theorem dX0_clearCell_24 : decode cX0_clearCell 24 = .ok (.ireturn, 1) := dk_172 (dk_at dksX0_clearCell_1 0 rfl rfl)
abbrev cX0_setFormula : ByteArray := method_12_code
def yX0_setFormula : MethodName := ⟨RX0, "setFormula", "(LSharedSheet;III[J)I"⟩
def dkwX0_setFormula_1 : List UInt8 := [58, 5, 6, 172, 3, 172]
abbrev dktX0_setFormula_1 : List UInt8 := dkwX0_setFormula_1 ++ []
def dkwX0_setFormula_0 : List UInt8 := [25, 4, 3, 42, 27, 28, 29, 182, 0, 47, 133, 80, 167, 0, 15, 58, 5, 4, 172, 58, 5, 5, 172]
abbrev dktX0_setFormula_0 : List UInt8 := dkwX0_setFormula_0 ++ dktX0_setFormula_1
theorem dksX0_setFormula_0 : cX0_setFormula.data.toList.drop 0 = dktX0_setFormula_0 := by decide +kernel
theorem dksX0_setFormula_1 : cX0_setFormula.data.toList.drop 23 = dktX0_setFormula_1 := dk_seg dksX0_setFormula_0 23 rfl rfl
theorem dX0_setFormula_0 : decode cX0_setFormula 0 = .ok (.aload 4, 2) := dk_25 4 (dk_at dksX0_setFormula_0 0 rfl rfl)
theorem dX0_setFormula_2 : decode cX0_setFormula 2 = .ok (.iconst 0, 1) := dk_3 (dk_at dksX0_setFormula_0 2 rfl rfl)
theorem dX0_setFormula_3 : decode cX0_setFormula 3 = .ok (.aload_n 0, 1) := dk_42 (dk_at dksX0_setFormula_0 3 rfl rfl)
theorem dX0_setFormula_4 : decode cX0_setFormula 4 = .ok (.iload_n 1, 1) := dk_27 (dk_at dksX0_setFormula_0 4 rfl rfl)
theorem dX0_setFormula_5 : decode cX0_setFormula 5 = .ok (.iload_n 2, 1) := dk_28 (dk_at dksX0_setFormula_0 5 rfl rfl)
theorem dX0_setFormula_6 : decode cX0_setFormula 6 = .ok (.iload_n 3, 1) := dk_29 (dk_at dksX0_setFormula_0 6 rfl rfl)
theorem dX0_setFormula_7 : decode cX0_setFormula 7 = .ok (.invokevirtual 47, 3) := dk_182 0 47 (dk_at dksX0_setFormula_0 7 rfl rfl)
theorem dX0_setFormula_10 : decode cX0_setFormula 10 = .ok (.i2l, 1) := dk_133 (dk_at dksX0_setFormula_0 10 rfl rfl)
theorem dX0_setFormula_11 : decode cX0_setFormula 11 = .ok (.lastore, 1) := dk_80 (dk_at dksX0_setFormula_0 11 rfl rfl)
theorem dX0_setFormula_12 : decode cX0_setFormula 12 = .ok (.goto 15, 3) := dk_167 0 15 (dk_at dksX0_setFormula_0 12 rfl rfl)
theorem dX0_setFormula_15 : decode cX0_setFormula 15 = .ok (.astore 5, 2) := dk_58 5 (dk_at dksX0_setFormula_0 15 rfl rfl)
theorem dX0_setFormula_17 : decode cX0_setFormula 17 = .ok (.iconst 1, 1) := dk_4 (dk_at dksX0_setFormula_0 17 rfl rfl)
theorem dX0_setFormula_18 : decode cX0_setFormula 18 = .ok (.ireturn, 1) := dk_172 (dk_at dksX0_setFormula_0 18 rfl rfl)
theorem dX0_setFormula_19 : decode cX0_setFormula 19 = .ok (.astore 5, 2) := dk_58 5 (dk_at dksX0_setFormula_0 19 rfl rfl)
theorem dX0_setFormula_21 : decode cX0_setFormula 21 = .ok (.iconst 2, 1) := dk_5 (dk_at dksX0_setFormula_0 21 rfl rfl)
theorem dX0_setFormula_22 : decode cX0_setFormula 22 = .ok (.ireturn, 1) := dk_172 (dk_at dksX0_setFormula_0 22 rfl rfl)
theorem dX0_setFormula_23 : decode cX0_setFormula 23 = .ok (.astore 5, 2) := dk_58 5 (dk_at dksX0_setFormula_1 0 rfl rfl)
theorem dX0_setFormula_25 : decode cX0_setFormula 25 = .ok (.iconst 3, 1) := dk_6 (dk_at dksX0_setFormula_1 2 rfl rfl)
theorem dX0_setFormula_26 : decode cX0_setFormula 26 = .ok (.ireturn, 1) := dk_172 (dk_at dksX0_setFormula_1 3 rfl rfl)
theorem dX0_setFormula_27 : decode cX0_setFormula 27 = .ok (.iconst 0, 1) := dk_3 (dk_at dksX0_setFormula_1 4 rfl rfl)
theorem dX0_setFormula_28 : decode cX0_setFormula 28 = .ok (.ireturn, 1) := dk_172 (dk_at dksX0_setFormula_1 5 rfl rfl)
abbrev cX0_cell : ByteArray := method_13_code
def yX0_cell : MethodName := ⟨RX0, "cell", "(LSharedSheet;IIII[J)I"⟩
def dkwX0_cell_1 : List UInt8 := [172, 3, 172]
abbrev dktX0_cell_1 : List UInt8 := dkwX0_cell_1 ++ []
def dkwX0_cell_0 : List UInt8 := [25, 5, 3, 42, 27, 28, 29, 21, 4, 182, 0, 50, 133, 80, 167, 0, 11, 58, 6, 4, 172, 58, 6, 5]
abbrev dktX0_cell_0 : List UInt8 := dkwX0_cell_0 ++ dktX0_cell_1
theorem dksX0_cell_0 : cX0_cell.data.toList.drop 0 = dktX0_cell_0 := by decide +kernel
theorem dksX0_cell_1 : cX0_cell.data.toList.drop 24 = dktX0_cell_1 := dk_seg dksX0_cell_0 24 rfl rfl
theorem dX0_cell_0 : decode cX0_cell 0 = .ok (.aload 5, 2) := dk_25 5 (dk_at dksX0_cell_0 0 rfl rfl)
theorem dX0_cell_2 : decode cX0_cell 2 = .ok (.iconst 0, 1) := dk_3 (dk_at dksX0_cell_0 2 rfl rfl)
theorem dX0_cell_3 : decode cX0_cell 3 = .ok (.aload_n 0, 1) := dk_42 (dk_at dksX0_cell_0 3 rfl rfl)
theorem dX0_cell_4 : decode cX0_cell 4 = .ok (.iload_n 1, 1) := dk_27 (dk_at dksX0_cell_0 4 rfl rfl)
theorem dX0_cell_5 : decode cX0_cell 5 = .ok (.iload_n 2, 1) := dk_28 (dk_at dksX0_cell_0 5 rfl rfl)
theorem dX0_cell_6 : decode cX0_cell 6 = .ok (.iload_n 3, 1) := dk_29 (dk_at dksX0_cell_0 6 rfl rfl)
theorem dX0_cell_7 : decode cX0_cell 7 = .ok (.iload 4, 2) := dk_21 4 (dk_at dksX0_cell_0 7 rfl rfl)
theorem dX0_cell_9 : decode cX0_cell 9 = .ok (.invokevirtual 50, 3) := dk_182 0 50 (dk_at dksX0_cell_0 9 rfl rfl)
theorem dX0_cell_12 : decode cX0_cell 12 = .ok (.i2l, 1) := dk_133 (dk_at dksX0_cell_0 12 rfl rfl)
theorem dX0_cell_13 : decode cX0_cell 13 = .ok (.lastore, 1) := dk_80 (dk_at dksX0_cell_0 13 rfl rfl)
theorem dX0_cell_14 : decode cX0_cell 14 = .ok (.goto 11, 3) := dk_167 0 11 (dk_at dksX0_cell_0 14 rfl rfl)
theorem dX0_cell_17 : decode cX0_cell 17 = .ok (.astore 6, 2) := dk_58 6 (dk_at dksX0_cell_0 17 rfl rfl)
theorem dX0_cell_19 : decode cX0_cell 19 = .ok (.iconst 1, 1) := dk_4 (dk_at dksX0_cell_0 19 rfl rfl)
theorem dX0_cell_20 : decode cX0_cell 20 = .ok (.ireturn, 1) := dk_172 (dk_at dksX0_cell_0 20 rfl rfl)
theorem dX0_cell_21 : decode cX0_cell 21 = .ok (.astore 6, 2) := dk_58 6 (dk_at dksX0_cell_0 21 rfl rfl)
theorem dX0_cell_23 : decode cX0_cell 23 = .ok (.iconst 2, 1) := dk_5 (dk_at dksX0_cell_0 23 rfl rfl)
theorem dX0_cell_24 : decode cX0_cell 24 = .ok (.ireturn, 1) := dk_172 (dk_at dksX0_cell_1 0 rfl rfl)
theorem dX0_cell_25 : decode cX0_cell 25 = .ok (.iconst 0, 1) := dk_3 (dk_at dksX0_cell_1 1 rfl rfl)
theorem dX0_cell_26 : decode cX0_cell 26 = .ok (.ireturn, 1) := dk_172 (dk_at dksX0_cell_1 2 rfl rfl)
abbrev cX0_value : ByteArray := method_14_code
def yX0_value : MethodName := ⟨RX0, "value", "(LSharedSheet;III[J)I"⟩
def dkwX0_value_0 : List UInt8 := [25, 4, 3, 42, 27, 28, 29, 182, 0, 53, 133, 80, 167, 0, 7, 58, 5, 4, 172, 3, 172]
abbrev dktX0_value_0 : List UInt8 := dkwX0_value_0 ++ []
theorem dksX0_value_0 : cX0_value.data.toList.drop 0 = dktX0_value_0 := by decide +kernel
theorem dX0_value_0 : decode cX0_value 0 = .ok (.aload 4, 2) := dk_25 4 (dk_at dksX0_value_0 0 rfl rfl)
theorem dX0_value_2 : decode cX0_value 2 = .ok (.iconst 0, 1) := dk_3 (dk_at dksX0_value_0 2 rfl rfl)
theorem dX0_value_3 : decode cX0_value 3 = .ok (.aload_n 0, 1) := dk_42 (dk_at dksX0_value_0 3 rfl rfl)
theorem dX0_value_4 : decode cX0_value 4 = .ok (.iload_n 1, 1) := dk_27 (dk_at dksX0_value_0 4 rfl rfl)
theorem dX0_value_5 : decode cX0_value 5 = .ok (.iload_n 2, 1) := dk_28 (dk_at dksX0_value_0 5 rfl rfl)
theorem dX0_value_6 : decode cX0_value 6 = .ok (.iload_n 3, 1) := dk_29 (dk_at dksX0_value_0 6 rfl rfl)
theorem dX0_value_7 : decode cX0_value 7 = .ok (.invokevirtual 53, 3) := dk_182 0 53 (dk_at dksX0_value_0 7 rfl rfl)
theorem dX0_value_10 : decode cX0_value 10 = .ok (.i2l, 1) := dk_133 (dk_at dksX0_value_0 10 rfl rfl)
theorem dX0_value_11 : decode cX0_value 11 = .ok (.lastore, 1) := dk_80 (dk_at dksX0_value_0 11 rfl rfl)
theorem dX0_value_12 : decode cX0_value 12 = .ok (.goto 7, 3) := dk_167 0 7 (dk_at dksX0_value_0 12 rfl rfl)
theorem dX0_value_15 : decode cX0_value 15 = .ok (.astore 5, 2) := dk_58 5 (dk_at dksX0_value_0 15 rfl rfl)
theorem dX0_value_17 : decode cX0_value 17 = .ok (.iconst 1, 1) := dk_4 (dk_at dksX0_value_0 17 rfl rfl)
theorem dX0_value_18 : decode cX0_value 18 = .ok (.ireturn, 1) := dk_172 (dk_at dksX0_value_0 18 rfl rfl)
theorem dX0_value_19 : decode cX0_value 19 = .ok (.iconst 0, 1) := dk_3 (dk_at dksX0_value_0 19 rfl rfl)
theorem dX0_value_20 : decode cX0_value 20 = .ok (.ireturn, 1) := dk_172 (dk_at dksX0_value_0 20 rfl rfl)
abbrev cX0_error : ByteArray := method_15_code
def yX0_error : MethodName := ⟨RX0, "error", "(LSharedSheet;III[J)I"⟩
def dkwX0_error_0 : List UInt8 := [25, 4, 3, 42, 27, 28, 29, 182, 0, 56, 133, 80, 167, 0, 7, 58, 5, 4, 172, 3, 172]
abbrev dktX0_error_0 : List UInt8 := dkwX0_error_0 ++ []
theorem dksX0_error_0 : cX0_error.data.toList.drop 0 = dktX0_error_0 := by decide +kernel
theorem dX0_error_0 : decode cX0_error 0 = .ok (.aload 4, 2) := dk_25 4 (dk_at dksX0_error_0 0 rfl rfl)
theorem dX0_error_2 : decode cX0_error 2 = .ok (.iconst 0, 1) := dk_3 (dk_at dksX0_error_0 2 rfl rfl)
theorem dX0_error_3 : decode cX0_error 3 = .ok (.aload_n 0, 1) := dk_42 (dk_at dksX0_error_0 3 rfl rfl)
theorem dX0_error_4 : decode cX0_error 4 = .ok (.iload_n 1, 1) := dk_27 (dk_at dksX0_error_0 4 rfl rfl)
theorem dX0_error_5 : decode cX0_error 5 = .ok (.iload_n 2, 1) := dk_28 (dk_at dksX0_error_0 5 rfl rfl)
theorem dX0_error_6 : decode cX0_error 6 = .ok (.iload_n 3, 1) := dk_29 (dk_at dksX0_error_0 6 rfl rfl)
theorem dX0_error_7 : decode cX0_error 7 = .ok (.invokevirtual 56, 3) := dk_182 0 56 (dk_at dksX0_error_0 7 rfl rfl)
theorem dX0_error_10 : decode cX0_error 10 = .ok (.i2l, 1) := dk_133 (dk_at dksX0_error_0 10 rfl rfl)
theorem dX0_error_11 : decode cX0_error 11 = .ok (.lastore, 1) := dk_80 (dk_at dksX0_error_0 11 rfl rfl)
theorem dX0_error_12 : decode cX0_error 12 = .ok (.goto 7, 3) := dk_167 0 7 (dk_at dksX0_error_0 12 rfl rfl)
theorem dX0_error_15 : decode cX0_error 15 = .ok (.astore 5, 2) := dk_58 5 (dk_at dksX0_error_0 15 rfl rfl)
theorem dX0_error_17 : decode cX0_error 17 = .ok (.iconst 1, 1) := dk_4 (dk_at dksX0_error_0 17 rfl rfl)
theorem dX0_error_18 : decode cX0_error 18 = .ok (.ireturn, 1) := dk_172 (dk_at dksX0_error_0 18 rfl rfl)
theorem dX0_error_19 : decode cX0_error 19 = .ok (.iconst 0, 1) := dk_3 (dk_at dksX0_error_0 19 rfl rfl)
theorem dX0_error_20 : decode cX0_error 20 = .ok (.ireturn, 1) := dk_172 (dk_at dksX0_error_0 20 rfl rfl)
abbrev cX0_write : ByteArray := method_16_code
def yX0_write : MethodName := ⟨RX0, "write", "(LSharedSheet;III[J)I"⟩
def dkwX0_write_1 : List UInt8 := [172]
abbrev dktX0_write_1 : List UInt8 := dkwX0_write_1 ++ []
def dkwX0_write_0 : List UInt8 := [25, 4, 3, 42, 27, 28, 29, 182, 0, 59, 133, 80, 167, 0, 11, 58, 5, 4, 172, 58, 5, 5, 172, 3]
abbrev dktX0_write_0 : List UInt8 := dkwX0_write_0 ++ dktX0_write_1
theorem dksX0_write_0 : cX0_write.data.toList.drop 0 = dktX0_write_0 := by decide +kernel
theorem dksX0_write_1 : cX0_write.data.toList.drop 24 = dktX0_write_1 := dk_seg dksX0_write_0 24 rfl rfl
theorem dX0_write_0 : decode cX0_write 0 = .ok (.aload 4, 2) := dk_25 4 (dk_at dksX0_write_0 0 rfl rfl)
theorem dX0_write_2 : decode cX0_write 2 = .ok (.iconst 0, 1) := dk_3 (dk_at dksX0_write_0 2 rfl rfl)
theorem dX0_write_3 : decode cX0_write 3 = .ok (.aload_n 0, 1) := dk_42 (dk_at dksX0_write_0 3 rfl rfl)
theorem dX0_write_4 : decode cX0_write 4 = .ok (.iload_n 1, 1) := dk_27 (dk_at dksX0_write_0 4 rfl rfl)
theorem dX0_write_5 : decode cX0_write 5 = .ok (.iload_n 2, 1) := dk_28 (dk_at dksX0_write_0 5 rfl rfl)
theorem dX0_write_6 : decode cX0_write 6 = .ok (.iload_n 3, 1) := dk_29 (dk_at dksX0_write_0 6 rfl rfl)
theorem dX0_write_7 : decode cX0_write 7 = .ok (.invokevirtual 59, 3) := dk_182 0 59 (dk_at dksX0_write_0 7 rfl rfl)
theorem dX0_write_10 : decode cX0_write 10 = .ok (.i2l, 1) := dk_133 (dk_at dksX0_write_0 10 rfl rfl)
theorem dX0_write_11 : decode cX0_write 11 = .ok (.lastore, 1) := dk_80 (dk_at dksX0_write_0 11 rfl rfl)
theorem dX0_write_12 : decode cX0_write 12 = .ok (.goto 11, 3) := dk_167 0 11 (dk_at dksX0_write_0 12 rfl rfl)
theorem dX0_write_15 : decode cX0_write 15 = .ok (.astore 5, 2) := dk_58 5 (dk_at dksX0_write_0 15 rfl rfl)
theorem dX0_write_17 : decode cX0_write 17 = .ok (.iconst 1, 1) := dk_4 (dk_at dksX0_write_0 17 rfl rfl)
theorem dX0_write_18 : decode cX0_write 18 = .ok (.ireturn, 1) := dk_172 (dk_at dksX0_write_0 18 rfl rfl)
theorem dX0_write_19 : decode cX0_write 19 = .ok (.astore 5, 2) := dk_58 5 (dk_at dksX0_write_0 19 rfl rfl)
theorem dX0_write_21 : decode cX0_write 21 = .ok (.iconst 2, 1) := dk_5 (dk_at dksX0_write_0 21 rfl rfl)
theorem dX0_write_22 : decode cX0_write 22 = .ok (.ireturn, 1) := dk_172 (dk_at dksX0_write_0 22 rfl rfl)
theorem dX0_write_23 : decode cX0_write 23 = .ok (.iconst 0, 1) := dk_3 (dk_at dksX0_write_0 23 rfl rfl)
theorem dX0_write_24 : decode cX0_write 24 = .ok (.ireturn, 1) := dk_172 (dk_at dksX0_write_1 0 rfl rfl)
abbrev cX0_cycles : ByteArray := method_17_code
def yX0_cycles : MethodName := ⟨RX0, "cycles", "(LSharedSheet;I[J)I"⟩
def dkwX0_cycles_0 : List UInt8 := [44, 3, 42, 27, 182, 0, 62, 133, 80, 167, 0, 6, 78, 4, 172, 3, 172]
abbrev dktX0_cycles_0 : List UInt8 := dkwX0_cycles_0 ++ []
theorem dksX0_cycles_0 : cX0_cycles.data.toList.drop 0 = dktX0_cycles_0 := by decide +kernel
theorem dX0_cycles_0 : decode cX0_cycles 0 = .ok (.aload_n 2, 1) := dk_44 (dk_at dksX0_cycles_0 0 rfl rfl)
theorem dX0_cycles_1 : decode cX0_cycles 1 = .ok (.iconst 0, 1) := dk_3 (dk_at dksX0_cycles_0 1 rfl rfl)
theorem dX0_cycles_2 : decode cX0_cycles 2 = .ok (.aload_n 0, 1) := dk_42 (dk_at dksX0_cycles_0 2 rfl rfl)
theorem dX0_cycles_3 : decode cX0_cycles 3 = .ok (.iload_n 1, 1) := dk_27 (dk_at dksX0_cycles_0 3 rfl rfl)
theorem dX0_cycles_4 : decode cX0_cycles 4 = .ok (.invokevirtual 62, 3) := dk_182 0 62 (dk_at dksX0_cycles_0 4 rfl rfl)
theorem dX0_cycles_7 : decode cX0_cycles 7 = .ok (.i2l, 1) := dk_133 (dk_at dksX0_cycles_0 7 rfl rfl)
theorem dX0_cycles_8 : decode cX0_cycles 8 = .ok (.lastore, 1) := dk_80 (dk_at dksX0_cycles_0 8 rfl rfl)
theorem dX0_cycles_9 : decode cX0_cycles 9 = .ok (.goto 6, 3) := dk_167 0 6 (dk_at dksX0_cycles_0 9 rfl rfl)
theorem dX0_cycles_12 : decode cX0_cycles 12 = .ok (.astore_n 3, 1) := dk_78 (dk_at dksX0_cycles_0 12 rfl rfl)
theorem dX0_cycles_13 : decode cX0_cycles 13 = .ok (.iconst 1, 1) := dk_4 (dk_at dksX0_cycles_0 13 rfl rfl)
theorem dX0_cycles_14 : decode cX0_cycles 14 = .ok (.ireturn, 1) := dk_172 (dk_at dksX0_cycles_0 14 rfl rfl)
theorem dX0_cycles_15 : decode cX0_cycles 15 = .ok (.iconst 0, 1) := dk_3 (dk_at dksX0_cycles_0 15 rfl rfl)
theorem dX0_cycles_16 : decode cX0_cycles 16 = .ok (.ireturn, 1) := dk_172 (dk_at dksX0_cycles_0 16 rfl rfl)
abbrev cX0_order : ByteArray := method_18_code
def yX0_order : MethodName := ⟨RX0, "order", "(LSharedSheet;II[J)I"⟩
def dkwX0_order_0 : List UInt8 := [45, 3, 42, 27, 28, 182, 0, 66, 133, 80, 167, 0, 7, 58, 4, 4, 172, 3, 172]
abbrev dktX0_order_0 : List UInt8 := dkwX0_order_0 ++ []
theorem dksX0_order_0 : cX0_order.data.toList.drop 0 = dktX0_order_0 := by decide +kernel
theorem dX0_order_0 : decode cX0_order 0 = .ok (.aload_n 3, 1) := dk_45 (dk_at dksX0_order_0 0 rfl rfl)
theorem dX0_order_1 : decode cX0_order 1 = .ok (.iconst 0, 1) := dk_3 (dk_at dksX0_order_0 1 rfl rfl)
theorem dX0_order_2 : decode cX0_order 2 = .ok (.aload_n 0, 1) := dk_42 (dk_at dksX0_order_0 2 rfl rfl)
theorem dX0_order_3 : decode cX0_order 3 = .ok (.iload_n 1, 1) := dk_27 (dk_at dksX0_order_0 3 rfl rfl)
theorem dX0_order_4 : decode cX0_order 4 = .ok (.iload_n 2, 1) := dk_28 (dk_at dksX0_order_0 4 rfl rfl)
theorem dX0_order_5 : decode cX0_order 5 = .ok (.invokevirtual 66, 3) := dk_182 0 66 (dk_at dksX0_order_0 5 rfl rfl)
theorem dX0_order_8 : decode cX0_order 8 = .ok (.i2l, 1) := dk_133 (dk_at dksX0_order_0 8 rfl rfl)
theorem dX0_order_9 : decode cX0_order 9 = .ok (.lastore, 1) := dk_80 (dk_at dksX0_order_0 9 rfl rfl)
theorem dX0_order_10 : decode cX0_order 10 = .ok (.goto 7, 3) := dk_167 0 7 (dk_at dksX0_order_0 10 rfl rfl)
theorem dX0_order_13 : decode cX0_order 13 = .ok (.astore 4, 2) := dk_58 4 (dk_at dksX0_order_0 13 rfl rfl)
theorem dX0_order_15 : decode cX0_order 15 = .ok (.iconst 1, 1) := dk_4 (dk_at dksX0_order_0 15 rfl rfl)
theorem dX0_order_16 : decode cX0_order 16 = .ok (.ireturn, 1) := dk_172 (dk_at dksX0_order_0 16 rfl rfl)
theorem dX0_order_17 : decode cX0_order 17 = .ok (.iconst 0, 1) := dk_3 (dk_at dksX0_order_0 17 rfl rfl)
theorem dX0_order_18 : decode cX0_order 18 = .ok (.ireturn, 1) := dk_172 (dk_at dksX0_order_0 18 rfl rfl)
abbrev cX0_receive : ByteArray := method_19_code
def yX0_receive : MethodName := ⟨RX0, "receive", "(LSharedSheet;III[J)I"⟩
def dkwX0_receive_1 : List UInt8 := [172]
abbrev dktX0_receive_1 : List UInt8 := dkwX0_receive_1 ++ []
def dkwX0_receive_0 : List UInt8 := [25, 4, 3, 42, 27, 28, 29, 182, 0, 70, 133, 80, 167, 0, 11, 58, 5, 4, 172, 58, 5, 5, 172, 3]
abbrev dktX0_receive_0 : List UInt8 := dkwX0_receive_0 ++ dktX0_receive_1
theorem dksX0_receive_0 : cX0_receive.data.toList.drop 0 = dktX0_receive_0 := by decide +kernel
theorem dksX0_receive_1 : cX0_receive.data.toList.drop 24 = dktX0_receive_1 := dk_seg dksX0_receive_0 24 rfl rfl
theorem dX0_receive_0 : decode cX0_receive 0 = .ok (.aload 4, 2) := dk_25 4 (dk_at dksX0_receive_0 0 rfl rfl)
theorem dX0_receive_2 : decode cX0_receive 2 = .ok (.iconst 0, 1) := dk_3 (dk_at dksX0_receive_0 2 rfl rfl)
theorem dX0_receive_3 : decode cX0_receive 3 = .ok (.aload_n 0, 1) := dk_42 (dk_at dksX0_receive_0 3 rfl rfl)
theorem dX0_receive_4 : decode cX0_receive 4 = .ok (.iload_n 1, 1) := dk_27 (dk_at dksX0_receive_0 4 rfl rfl)
theorem dX0_receive_5 : decode cX0_receive 5 = .ok (.iload_n 2, 1) := dk_28 (dk_at dksX0_receive_0 5 rfl rfl)
theorem dX0_receive_6 : decode cX0_receive 6 = .ok (.iload_n 3, 1) := dk_29 (dk_at dksX0_receive_0 6 rfl rfl)
theorem dX0_receive_7 : decode cX0_receive 7 = .ok (.invokevirtual 70, 3) := dk_182 0 70 (dk_at dksX0_receive_0 7 rfl rfl)
theorem dX0_receive_10 : decode cX0_receive 10 = .ok (.i2l, 1) := dk_133 (dk_at dksX0_receive_0 10 rfl rfl)
theorem dX0_receive_11 : decode cX0_receive 11 = .ok (.lastore, 1) := dk_80 (dk_at dksX0_receive_0 11 rfl rfl)
theorem dX0_receive_12 : decode cX0_receive 12 = .ok (.goto 11, 3) := dk_167 0 11 (dk_at dksX0_receive_0 12 rfl rfl)
theorem dX0_receive_15 : decode cX0_receive 15 = .ok (.astore 5, 2) := dk_58 5 (dk_at dksX0_receive_0 15 rfl rfl)
theorem dX0_receive_17 : decode cX0_receive 17 = .ok (.iconst 1, 1) := dk_4 (dk_at dksX0_receive_0 17 rfl rfl)
theorem dX0_receive_18 : decode cX0_receive 18 = .ok (.ireturn, 1) := dk_172 (dk_at dksX0_receive_0 18 rfl rfl)
theorem dX0_receive_19 : decode cX0_receive 19 = .ok (.astore 5, 2) := dk_58 5 (dk_at dksX0_receive_0 19 rfl rfl)
theorem dX0_receive_21 : decode cX0_receive 21 = .ok (.iconst 2, 1) := dk_5 (dk_at dksX0_receive_0 21 rfl rfl)
theorem dX0_receive_22 : decode cX0_receive 22 = .ok (.ireturn, 1) := dk_172 (dk_at dksX0_receive_0 22 rfl rfl)
theorem dX0_receive_23 : decode cX0_receive 23 = .ok (.iconst 0, 1) := dk_3 (dk_at dksX0_receive_0 23 rfl rfl)
theorem dX0_receive_24 : decode cX0_receive 24 = .ok (.ireturn, 1) := dk_172 (dk_at dksX0_receive_1 0 rfl rfl)
abbrev cX0_missing : ByteArray := method_20_code
def yX0_missing : MethodName := ⟨RX0, "missing", "(LSharedSheet;II[J)I"⟩
def dkwX0_missing_0 : List UInt8 := [45, 3, 42, 27, 28, 182, 0, 73, 133, 80, 167, 0, 11, 58, 4, 4, 172, 58, 4, 5, 172, 3, 172]
abbrev dktX0_missing_0 : List UInt8 := dkwX0_missing_0 ++ []
theorem dksX0_missing_0 : cX0_missing.data.toList.drop 0 = dktX0_missing_0 := by decide +kernel
theorem dX0_missing_0 : decode cX0_missing 0 = .ok (.aload_n 3, 1) := dk_45 (dk_at dksX0_missing_0 0 rfl rfl)
theorem dX0_missing_1 : decode cX0_missing 1 = .ok (.iconst 0, 1) := dk_3 (dk_at dksX0_missing_0 1 rfl rfl)
theorem dX0_missing_2 : decode cX0_missing 2 = .ok (.aload_n 0, 1) := dk_42 (dk_at dksX0_missing_0 2 rfl rfl)
theorem dX0_missing_3 : decode cX0_missing 3 = .ok (.iload_n 1, 1) := dk_27 (dk_at dksX0_missing_0 3 rfl rfl)
theorem dX0_missing_4 : decode cX0_missing 4 = .ok (.iload_n 2, 1) := dk_28 (dk_at dksX0_missing_0 4 rfl rfl)
theorem dX0_missing_5 : decode cX0_missing 5 = .ok (.invokevirtual 73, 3) := dk_182 0 73 (dk_at dksX0_missing_0 5 rfl rfl)
theorem dX0_missing_8 : decode cX0_missing 8 = .ok (.i2l, 1) := dk_133 (dk_at dksX0_missing_0 8 rfl rfl)
theorem dX0_missing_9 : decode cX0_missing 9 = .ok (.lastore, 1) := dk_80 (dk_at dksX0_missing_0 9 rfl rfl)
theorem dX0_missing_10 : decode cX0_missing 10 = .ok (.goto 11, 3) := dk_167 0 11 (dk_at dksX0_missing_0 10 rfl rfl)
theorem dX0_missing_13 : decode cX0_missing 13 = .ok (.astore 4, 2) := dk_58 4 (dk_at dksX0_missing_0 13 rfl rfl)
theorem dX0_missing_15 : decode cX0_missing 15 = .ok (.iconst 1, 1) := dk_4 (dk_at dksX0_missing_0 15 rfl rfl)
theorem dX0_missing_16 : decode cX0_missing 16 = .ok (.ireturn, 1) := dk_172 (dk_at dksX0_missing_0 16 rfl rfl)
theorem dX0_missing_17 : decode cX0_missing 17 = .ok (.astore 4, 2) := dk_58 4 (dk_at dksX0_missing_0 17 rfl rfl)
theorem dX0_missing_19 : decode cX0_missing 19 = .ok (.iconst 2, 1) := dk_5 (dk_at dksX0_missing_0 19 rfl rfl)
theorem dX0_missing_20 : decode cX0_missing 20 = .ok (.ireturn, 1) := dk_172 (dk_at dksX0_missing_0 20 rfl rfl)
theorem dX0_missing_21 : decode cX0_missing 21 = .ok (.iconst 0, 1) := dk_3 (dk_at dksX0_missing_0 21 rfl rfl)
theorem dX0_missing_22 : decode cX0_missing 22 = .ok (.ireturn, 1) := dk_172 (dk_at dksX0_missing_0 22 rfl rfl)
abbrev cX0_clock : ByteArray := method_21_code
def yX0_clock : MethodName := ⟨RX0, "clock", "(LSharedSheet;I[J)I"⟩
def dkwX0_clock_0 : List UInt8 := [44, 3, 42, 27, 182, 0, 76, 133, 80, 167, 0, 6, 78, 4, 172, 3, 172]
abbrev dktX0_clock_0 : List UInt8 := dkwX0_clock_0 ++ []
theorem dksX0_clock_0 : cX0_clock.data.toList.drop 0 = dktX0_clock_0 := by decide +kernel
theorem dX0_clock_0 : decode cX0_clock 0 = .ok (.aload_n 2, 1) := dk_44 (dk_at dksX0_clock_0 0 rfl rfl)
theorem dX0_clock_1 : decode cX0_clock 1 = .ok (.iconst 0, 1) := dk_3 (dk_at dksX0_clock_0 1 rfl rfl)
theorem dX0_clock_2 : decode cX0_clock 2 = .ok (.aload_n 0, 1) := dk_42 (dk_at dksX0_clock_0 2 rfl rfl)
theorem dX0_clock_3 : decode cX0_clock 3 = .ok (.iload_n 1, 1) := dk_27 (dk_at dksX0_clock_0 3 rfl rfl)
theorem dX0_clock_4 : decode cX0_clock 4 = .ok (.invokevirtual 76, 3) := dk_182 0 76 (dk_at dksX0_clock_0 4 rfl rfl)
theorem dX0_clock_7 : decode cX0_clock 7 = .ok (.i2l, 1) := dk_133 (dk_at dksX0_clock_0 7 rfl rfl)
theorem dX0_clock_8 : decode cX0_clock 8 = .ok (.lastore, 1) := dk_80 (dk_at dksX0_clock_0 8 rfl rfl)
theorem dX0_clock_9 : decode cX0_clock 9 = .ok (.goto 6, 3) := dk_167 0 6 (dk_at dksX0_clock_0 9 rfl rfl)
theorem dX0_clock_12 : decode cX0_clock 12 = .ok (.astore_n 3, 1) := dk_78 (dk_at dksX0_clock_0 12 rfl rfl)
theorem dX0_clock_13 : decode cX0_clock 13 = .ok (.iconst 1, 1) := dk_4 (dk_at dksX0_clock_0 13 rfl rfl)
theorem dX0_clock_14 : decode cX0_clock 14 = .ok (.ireturn, 1) := dk_172 (dk_at dksX0_clock_0 14 rfl rfl)
theorem dX0_clock_15 : decode cX0_clock 15 = .ok (.iconst 0, 1) := dk_3 (dk_at dksX0_clock_0 15 rfl rfl)
theorem dX0_clock_16 : decode cX0_clock 16 = .ok (.ireturn, 1) := dk_172 (dk_at dksX0_clock_0 16 rfl rfl)
abbrev cX0_operation : ByteArray := method_22_code
def yX0_operation : MethodName := ⟨RX0, "operation", "(LSharedSheet;III[J)I"⟩
def dkwX0_operation_1 : List UInt8 := [172]
abbrev dktX0_operation_1 : List UInt8 := dkwX0_operation_1 ++ []
def dkwX0_operation_0 : List UInt8 := [25, 4, 3, 42, 27, 28, 29, 182, 0, 79, 133, 80, 167, 0, 11, 58, 5, 4, 172, 58, 5, 5, 172, 3]
abbrev dktX0_operation_0 : List UInt8 := dkwX0_operation_0 ++ dktX0_operation_1
theorem dksX0_operation_0 : cX0_operation.data.toList.drop 0 = dktX0_operation_0 := by decide +kernel
theorem dksX0_operation_1 : cX0_operation.data.toList.drop 24 = dktX0_operation_1 := dk_seg dksX0_operation_0 24 rfl rfl
theorem dX0_operation_0 : decode cX0_operation 0 = .ok (.aload 4, 2) := dk_25 4 (dk_at dksX0_operation_0 0 rfl rfl)
theorem dX0_operation_2 : decode cX0_operation 2 = .ok (.iconst 0, 1) := dk_3 (dk_at dksX0_operation_0 2 rfl rfl)
theorem dX0_operation_3 : decode cX0_operation 3 = .ok (.aload_n 0, 1) := dk_42 (dk_at dksX0_operation_0 3 rfl rfl)
theorem dX0_operation_4 : decode cX0_operation 4 = .ok (.iload_n 1, 1) := dk_27 (dk_at dksX0_operation_0 4 rfl rfl)
theorem dX0_operation_5 : decode cX0_operation 5 = .ok (.iload_n 2, 1) := dk_28 (dk_at dksX0_operation_0 5 rfl rfl)
theorem dX0_operation_6 : decode cX0_operation 6 = .ok (.iload_n 3, 1) := dk_29 (dk_at dksX0_operation_0 6 rfl rfl)
theorem dX0_operation_7 : decode cX0_operation 7 = .ok (.invokevirtual 79, 3) := dk_182 0 79 (dk_at dksX0_operation_0 7 rfl rfl)
theorem dX0_operation_10 : decode cX0_operation 10 = .ok (.i2l, 1) := dk_133 (dk_at dksX0_operation_0 10 rfl rfl)
theorem dX0_operation_11 : decode cX0_operation 11 = .ok (.lastore, 1) := dk_80 (dk_at dksX0_operation_0 11 rfl rfl)
theorem dX0_operation_12 : decode cX0_operation 12 = .ok (.goto 11, 3) := dk_167 0 11 (dk_at dksX0_operation_0 12 rfl rfl)
theorem dX0_operation_15 : decode cX0_operation 15 = .ok (.astore 5, 2) := dk_58 5 (dk_at dksX0_operation_0 15 rfl rfl)
theorem dX0_operation_17 : decode cX0_operation 17 = .ok (.iconst 1, 1) := dk_4 (dk_at dksX0_operation_0 17 rfl rfl)
theorem dX0_operation_18 : decode cX0_operation 18 = .ok (.ireturn, 1) := dk_172 (dk_at dksX0_operation_0 18 rfl rfl)
theorem dX0_operation_19 : decode cX0_operation 19 = .ok (.astore 5, 2) := dk_58 5 (dk_at dksX0_operation_0 19 rfl rfl)
theorem dX0_operation_21 : decode cX0_operation 21 = .ok (.iconst 2, 1) := dk_5 (dk_at dksX0_operation_0 21 rfl rfl)
theorem dX0_operation_22 : decode cX0_operation 22 = .ok (.ireturn, 1) := dk_172 (dk_at dksX0_operation_0 22 rfl rfl)
theorem dX0_operation_23 : decode cX0_operation 23 = .ok (.iconst 0, 1) := dk_3 (dk_at dksX0_operation_0 23 rfl rfl)
theorem dX0_operation_24 : decode cX0_operation 24 = .ok (.ireturn, 1) := dk_172 (dk_at dksX0_operation_1 0 rfl rfl)
abbrev cX0_areAlike : ByteArray := method_23_code
def yX0_areAlike : MethodName := ⟨RX0, "areAlike", "(LSharedSheet;II[J)I"⟩
def dkwX0_areAlike_1 : List UInt8 := [3, 172]
abbrev dktX0_areAlike_1 : List UInt8 := dkwX0_areAlike_1 ++ []
def dkwX0_areAlike_0 : List UInt8 := [45, 3, 42, 27, 28, 182, 0, 82, 153, 0, 7, 10, 167, 0, 4, 9, 80, 167, 0, 7, 58, 4, 4, 172]
abbrev dktX0_areAlike_0 : List UInt8 := dkwX0_areAlike_0 ++ dktX0_areAlike_1
theorem dksX0_areAlike_0 : cX0_areAlike.data.toList.drop 0 = dktX0_areAlike_0 := by decide +kernel
theorem dksX0_areAlike_1 : cX0_areAlike.data.toList.drop 24 = dktX0_areAlike_1 := dk_seg dksX0_areAlike_0 24 rfl rfl
theorem dX0_areAlike_0 : decode cX0_areAlike 0 = .ok (.aload_n 3, 1) := dk_45 (dk_at dksX0_areAlike_0 0 rfl rfl)
theorem dX0_areAlike_1 : decode cX0_areAlike 1 = .ok (.iconst 0, 1) := dk_3 (dk_at dksX0_areAlike_0 1 rfl rfl)
theorem dX0_areAlike_2 : decode cX0_areAlike 2 = .ok (.aload_n 0, 1) := dk_42 (dk_at dksX0_areAlike_0 2 rfl rfl)
theorem dX0_areAlike_3 : decode cX0_areAlike 3 = .ok (.iload_n 1, 1) := dk_27 (dk_at dksX0_areAlike_0 3 rfl rfl)
theorem dX0_areAlike_4 : decode cX0_areAlike 4 = .ok (.iload_n 2, 1) := dk_28 (dk_at dksX0_areAlike_0 4 rfl rfl)
theorem dX0_areAlike_5 : decode cX0_areAlike 5 = .ok (.invokevirtual 82, 3) := dk_182 0 82 (dk_at dksX0_areAlike_0 5 rfl rfl)
theorem dX0_areAlike_8 : decode cX0_areAlike 8 = .ok (.ifCond .eq 7, 3) := dk_153 0 7 (dk_at dksX0_areAlike_0 8 rfl rfl)
theorem dX0_areAlike_11 : decode cX0_areAlike 11 = .ok (.lconst 1, 1) := dk_10 (dk_at dksX0_areAlike_0 11 rfl rfl)
theorem dX0_areAlike_12 : decode cX0_areAlike 12 = .ok (.goto 4, 3) := dk_167 0 4 (dk_at dksX0_areAlike_0 12 rfl rfl)
theorem dX0_areAlike_15 : decode cX0_areAlike 15 = .ok (.lconst 0, 1) := dk_9 (dk_at dksX0_areAlike_0 15 rfl rfl)
theorem dX0_areAlike_16 : decode cX0_areAlike 16 = .ok (.lastore, 1) := dk_80 (dk_at dksX0_areAlike_0 16 rfl rfl)
theorem dX0_areAlike_17 : decode cX0_areAlike 17 = .ok (.goto 7, 3) := dk_167 0 7 (dk_at dksX0_areAlike_0 17 rfl rfl)
theorem dX0_areAlike_20 : decode cX0_areAlike 20 = .ok (.astore 4, 2) := dk_58 4 (dk_at dksX0_areAlike_0 20 rfl rfl)
theorem dX0_areAlike_22 : decode cX0_areAlike 22 = .ok (.iconst 1, 1) := dk_4 (dk_at dksX0_areAlike_0 22 rfl rfl)
theorem dX0_areAlike_23 : decode cX0_areAlike 23 = .ok (.ireturn, 1) := dk_172 (dk_at dksX0_areAlike_0 23 rfl rfl)
theorem dX0_areAlike_24 : decode cX0_areAlike 24 = .ok (.iconst 0, 1) := dk_3 (dk_at dksX0_areAlike_1 0 rfl rfl)
theorem dX0_areAlike_25 : decode cX0_areAlike 25 = .ok (.ireturn, 1) := dk_172 (dk_at dksX0_areAlike_1 1 rfl rfl)
abbrev cX0_different : ByteArray := method_24_code
def yX0_different : MethodName := ⟨RX0, "different", "(LSharedSheet;II[J)I"⟩
def dkwX0_different_0 : List UInt8 := [45, 3, 42, 27, 28, 182, 0, 86, 133, 80, 167, 0, 7, 58, 4, 4, 172, 3, 172]
abbrev dktX0_different_0 : List UInt8 := dkwX0_different_0 ++ []
theorem dksX0_different_0 : cX0_different.data.toList.drop 0 = dktX0_different_0 := by decide +kernel
theorem dX0_different_0 : decode cX0_different 0 = .ok (.aload_n 3, 1) := dk_45 (dk_at dksX0_different_0 0 rfl rfl)
theorem dX0_different_1 : decode cX0_different 1 = .ok (.iconst 0, 1) := dk_3 (dk_at dksX0_different_0 1 rfl rfl)
theorem dX0_different_2 : decode cX0_different 2 = .ok (.aload_n 0, 1) := dk_42 (dk_at dksX0_different_0 2 rfl rfl)
theorem dX0_different_3 : decode cX0_different 3 = .ok (.iload_n 1, 1) := dk_27 (dk_at dksX0_different_0 3 rfl rfl)
theorem dX0_different_4 : decode cX0_different 4 = .ok (.iload_n 2, 1) := dk_28 (dk_at dksX0_different_0 4 rfl rfl)
theorem dX0_different_5 : decode cX0_different 5 = .ok (.invokevirtual 86, 3) := dk_182 0 86 (dk_at dksX0_different_0 5 rfl rfl)
theorem dX0_different_8 : decode cX0_different 8 = .ok (.i2l, 1) := dk_133 (dk_at dksX0_different_0 8 rfl rfl)
theorem dX0_different_9 : decode cX0_different 9 = .ok (.lastore, 1) := dk_80 (dk_at dksX0_different_0 9 rfl rfl)
theorem dX0_different_10 : decode cX0_different 10 = .ok (.goto 7, 3) := dk_167 0 7 (dk_at dksX0_different_0 10 rfl rfl)
theorem dX0_different_13 : decode cX0_different 13 = .ok (.astore 4, 2) := dk_58 4 (dk_at dksX0_different_0 13 rfl rfl)
theorem dX0_different_15 : decode cX0_different 15 = .ok (.iconst 1, 1) := dk_4 (dk_at dksX0_different_0 15 rfl rfl)
theorem dX0_different_16 : decode cX0_different 16 = .ok (.ireturn, 1) := dk_172 (dk_at dksX0_different_0 16 rfl rfl)
theorem dX0_different_17 : decode cX0_different 17 = .ok (.iconst 0, 1) := dk_3 (dk_at dksX0_different_0 17 rfl rfl)
theorem dX0_different_18 : decode cX0_different 18 = .ok (.ireturn, 1) := dk_172 (dk_at dksX0_different_0 18 rfl rfl)
abbrev cX0_type : ByteArray := method_25_code
def yX0_type : MethodName := ⟨RX0, "type", "(LSharedSheet;I[J)I"⟩
def dkwX0_type_0 : List UInt8 := [44, 3, 42, 27, 182, 0, 89, 133, 80, 167, 0, 9, 78, 4, 172, 78, 5, 172, 3, 172]
abbrev dktX0_type_0 : List UInt8 := dkwX0_type_0 ++ []
theorem dksX0_type_0 : cX0_type.data.toList.drop 0 = dktX0_type_0 := by decide +kernel
theorem dX0_type_0 : decode cX0_type 0 = .ok (.aload_n 2, 1) := dk_44 (dk_at dksX0_type_0 0 rfl rfl)
theorem dX0_type_1 : decode cX0_type 1 = .ok (.iconst 0, 1) := dk_3 (dk_at dksX0_type_0 1 rfl rfl)
theorem dX0_type_2 : decode cX0_type 2 = .ok (.aload_n 0, 1) := dk_42 (dk_at dksX0_type_0 2 rfl rfl)
theorem dX0_type_3 : decode cX0_type 3 = .ok (.iload_n 1, 1) := dk_27 (dk_at dksX0_type_0 3 rfl rfl)
theorem dX0_type_4 : decode cX0_type 4 = .ok (.invokevirtual 89, 3) := dk_182 0 89 (dk_at dksX0_type_0 4 rfl rfl)
theorem dX0_type_7 : decode cX0_type 7 = .ok (.i2l, 1) := dk_133 (dk_at dksX0_type_0 7 rfl rfl)
theorem dX0_type_8 : decode cX0_type 8 = .ok (.lastore, 1) := dk_80 (dk_at dksX0_type_0 8 rfl rfl)
theorem dX0_type_9 : decode cX0_type 9 = .ok (.goto 9, 3) := dk_167 0 9 (dk_at dksX0_type_0 9 rfl rfl)
theorem dX0_type_12 : decode cX0_type 12 = .ok (.astore_n 3, 1) := dk_78 (dk_at dksX0_type_0 12 rfl rfl)
theorem dX0_type_13 : decode cX0_type 13 = .ok (.iconst 1, 1) := dk_4 (dk_at dksX0_type_0 13 rfl rfl)
theorem dX0_type_14 : decode cX0_type 14 = .ok (.ireturn, 1) := dk_172 (dk_at dksX0_type_0 14 rfl rfl)
theorem dX0_type_15 : decode cX0_type 15 = .ok (.astore_n 3, 1) := dk_78 (dk_at dksX0_type_0 15 rfl rfl)
theorem dX0_type_16 : decode cX0_type 16 = .ok (.iconst 2, 1) := dk_5 (dk_at dksX0_type_0 16 rfl rfl)
theorem dX0_type_17 : decode cX0_type 17 = .ok (.ireturn, 1) := dk_172 (dk_at dksX0_type_0 17 rfl rfl)
theorem dX0_type_18 : decode cX0_type 18 = .ok (.iconst 0, 1) := dk_3 (dk_at dksX0_type_0 18 rfl rfl)
theorem dX0_type_19 : decode cX0_type 19 = .ok (.ireturn, 1) := dk_172 (dk_at dksX0_type_0 19 rfl rfl)
abbrev cX0_fault : ByteArray := method_26_code
def yX0_fault : MethodName := ⟨RX0, "fault", "(LSharedSheet;I[J)I"⟩
def dkwX0_fault_0 : List UInt8 := [44, 3, 42, 27, 182, 0, 92, 133, 80, 167, 0, 6, 78, 4, 172, 3, 172]
abbrev dktX0_fault_0 : List UInt8 := dkwX0_fault_0 ++ []
theorem dksX0_fault_0 : cX0_fault.data.toList.drop 0 = dktX0_fault_0 := by decide +kernel
theorem dX0_fault_0 : decode cX0_fault 0 = .ok (.aload_n 2, 1) := dk_44 (dk_at dksX0_fault_0 0 rfl rfl)
theorem dX0_fault_1 : decode cX0_fault 1 = .ok (.iconst 0, 1) := dk_3 (dk_at dksX0_fault_0 1 rfl rfl)
theorem dX0_fault_2 : decode cX0_fault 2 = .ok (.aload_n 0, 1) := dk_42 (dk_at dksX0_fault_0 2 rfl rfl)
theorem dX0_fault_3 : decode cX0_fault 3 = .ok (.iload_n 1, 1) := dk_27 (dk_at dksX0_fault_0 3 rfl rfl)
theorem dX0_fault_4 : decode cX0_fault 4 = .ok (.invokevirtual 92, 3) := dk_182 0 92 (dk_at dksX0_fault_0 4 rfl rfl)
theorem dX0_fault_7 : decode cX0_fault 7 = .ok (.i2l, 1) := dk_133 (dk_at dksX0_fault_0 7 rfl rfl)
theorem dX0_fault_8 : decode cX0_fault 8 = .ok (.lastore, 1) := dk_80 (dk_at dksX0_fault_0 8 rfl rfl)
theorem dX0_fault_9 : decode cX0_fault 9 = .ok (.goto 6, 3) := dk_167 0 6 (dk_at dksX0_fault_0 9 rfl rfl)
theorem dX0_fault_12 : decode cX0_fault 12 = .ok (.astore_n 3, 1) := dk_78 (dk_at dksX0_fault_0 12 rfl rfl)
theorem dX0_fault_13 : decode cX0_fault 13 = .ok (.iconst 1, 1) := dk_4 (dk_at dksX0_fault_0 13 rfl rfl)
theorem dX0_fault_14 : decode cX0_fault 14 = .ok (.ireturn, 1) := dk_172 (dk_at dksX0_fault_0 14 rfl rfl)
theorem dX0_fault_15 : decode cX0_fault 15 = .ok (.iconst 0, 1) := dk_3 (dk_at dksX0_fault_0 15 rfl rfl)
theorem dX0_fault_16 : decode cX0_fault 16 = .ok (.ireturn, 1) := dk_172 (dk_at dksX0_fault_0 16 rfl rfl)
abbrev cX0_undo : ByteArray := method_27_code
def yX0_undo : MethodName := ⟨RX0, "undo", "(LSharedSheet;[J)I"⟩
def dkwX0_undo_0 : List UInt8 := [43, 3, 42, 182, 0, 95, 133, 80, 167, 0, 6, 77, 4, 172, 3, 172]
abbrev dktX0_undo_0 : List UInt8 := dkwX0_undo_0 ++ []
theorem dksX0_undo_0 : cX0_undo.data.toList.drop 0 = dktX0_undo_0 := by decide +kernel
theorem dX0_undo_0 : decode cX0_undo 0 = .ok (.aload_n 1, 1) := dk_43 (dk_at dksX0_undo_0 0 rfl rfl)
theorem dX0_undo_1 : decode cX0_undo 1 = .ok (.iconst 0, 1) := dk_3 (dk_at dksX0_undo_0 1 rfl rfl)
theorem dX0_undo_2 : decode cX0_undo 2 = .ok (.aload_n 0, 1) := dk_42 (dk_at dksX0_undo_0 2 rfl rfl)
theorem dX0_undo_3 : decode cX0_undo 3 = .ok (.invokevirtual 95, 3) := dk_182 0 95 (dk_at dksX0_undo_0 3 rfl rfl)
theorem dX0_undo_6 : decode cX0_undo 6 = .ok (.i2l, 1) := dk_133 (dk_at dksX0_undo_0 6 rfl rfl)
theorem dX0_undo_7 : decode cX0_undo 7 = .ok (.lastore, 1) := dk_80 (dk_at dksX0_undo_0 7 rfl rfl)
theorem dX0_undo_8 : decode cX0_undo 8 = .ok (.goto 6, 3) := dk_167 0 6 (dk_at dksX0_undo_0 8 rfl rfl)
theorem dX0_undo_11 : decode cX0_undo 11 = .ok (.astore_n 2, 1) := dk_77 (dk_at dksX0_undo_0 11 rfl rfl)
theorem dX0_undo_12 : decode cX0_undo 12 = .ok (.iconst 1, 1) := dk_4 (dk_at dksX0_undo_0 12 rfl rfl)
theorem dX0_undo_13 : decode cX0_undo 13 = .ok (.ireturn, 1) := dk_172 (dk_at dksX0_undo_0 13 rfl rfl)
theorem dX0_undo_14 : decode cX0_undo 14 = .ok (.iconst 0, 1) := dk_3 (dk_at dksX0_undo_0 14 rfl rfl)
theorem dX0_undo_15 : decode cX0_undo 15 = .ok (.ireturn, 1) := dk_172 (dk_at dksX0_undo_0 15 rfl rfl)
theorem q85 : (Jvm.Cond.initialized "SharedSheetLaw") ∈ lw_all := lw_g (lw_at lw_m1 0 rfl) rfl
theorem q129 : (Jvm.Cond.classLink "SharedSheetLaw" (8 : Nat) "SharedSheet") ∈ lw_all := lw_g (lw_at lw_m1 44 rfl) rfl
theorem q131 : (Jvm.Cond.methodLink "SharedSheetLaw" (99 : Nat) ({ cls := "SharedSheet", name := "<init>", desc := "()V" } : Jvm.MethodName)) ∈ lw_all := lw_g (lw_at lw_m1 46 rfl) rfl
theorem q442 : (Jvm.Cond.methodLink "SharedSheetLaw" (166 : Nat) ({ cls := "SharedSheet", name := "settle", desc := "()I" } : Jvm.MethodName)) ∈ lw_all := lw_g (lw_at lw_m2 117 rfl) rfl
theorem q856 : (Jvm.Cond.methodLink "SharedSheetLaw" (188 : Nat) ({ cls := "SharedSheet", name := "clearText", desc := "()I" } : Jvm.MethodName)) ∈ lw_all := lw_g (lw_at lw_m4 51 rfl) rfl
theorem q1109 : (Jvm.Cond.methodLink "SharedSheetLaw" (195 : Nat) ({ cls := "SharedSheet", name := "character", desc := "(I)I" } : Jvm.MethodName)) ∈ lw_all := lw_g (lw_at lw_m5 64 rfl) rfl
theorem q1129 : (Jvm.Cond.methodLink "SharedSheetLaw" (203 : Nat) ({ cls := "SharedSheet", name := "checksum", desc := "()J" } : Jvm.MethodName)) ∈ lw_all := lw_g (lw_at lw_m5 84 rfl) rfl
theorem q1426 : (Jvm.Cond.methodLink "SharedSheetLaw" (103 : Nat) ({ cls := "SharedSheetLaw", name := "make", desc := "(LSharedSheet;IZI[J)I" } : Jvm.MethodName)) ∈ lw_all := lw_g (lw_at lw_m6 141 rfl) rfl
theorem q1427 : (Jvm.Cond.static ({ cls := "SharedSheetLaw", name := "make", desc := "(LSharedSheet;IZI[J)I" } : Jvm.MethodName)) ∈ lw_all := lw_g (lw_at lw_m6 142 rfl) rfl
theorem q1428 : (Jvm.Cond.codeWith ({ cls := "SharedSheetLaw", name := "make", desc := "(LSharedSheet;IZI[J)I" } : Jvm.MethodName) method_3_code (6 : Nat) (Option.some Jvm.ClassFile.FieldType.int) [((0 : Nat), (12 : Nat), (15 : Nat), (13 : Nat)), ((0 : Nat), (12 : Nat), (19 : Nat), (15 : Nat))]) ∈ lw_all := lw_g (lw_at lw_m6 143 rfl) rfl
theorem q1429 : (Jvm.Cond.classLink "SharedSheetLaw" (13 : Nat) "java/lang/IndexOutOfBoundsException") ∈ lw_all := lw_g (lw_at lw_m6 144 rfl) rfl
theorem q1432 : (Jvm.Cond.classLink "SharedSheetLaw" (15 : Nat) "java/lang/IllegalStateException") ∈ lw_all := lw_g (lw_at lw_m6 147 rfl) rfl
theorem q1433 : (Jvm.Cond.methodLink "SharedSheetLaw" (7 : Nat) ({ cls := "SharedSheet", name := "make", desc := "(IZI)I" } : Jvm.MethodName)) ∈ lw_all := lw_g (lw_at lw_m6 148 rfl) rfl
theorem q1524 : (Jvm.Cond.methodLink "SharedSheetLaw" (112 : Nat) ({ cls := "SharedSheetLaw", name := "move", desc := "(LSharedSheet;IZII[J)I" } : Jvm.MethodName)) ∈ lw_all := lw_g (lw_at lw_m6 239 rfl) rfl
theorem q1525 : (Jvm.Cond.static ({ cls := "SharedSheetLaw", name := "move", desc := "(LSharedSheet;IZII[J)I" } : Jvm.MethodName)) ∈ lw_all := lw_g (lw_at lw_m7 0 rfl) rfl
theorem q1526 : (Jvm.Cond.codeWith ({ cls := "SharedSheetLaw", name := "move", desc := "(LSharedSheet;IZII[J)I" } : Jvm.MethodName) method_4_code (7 : Nat) (Option.some Jvm.ClassFile.FieldType.int) [((0 : Nat), (14 : Nat), (17 : Nat), (13 : Nat)), ((0 : Nat), (14 : Nat), (21 : Nat), (15 : Nat))]) ∈ lw_all := lw_g (lw_at lw_m7 1 rfl) rfl
theorem q1527 : (Jvm.Cond.methodLink "SharedSheetLaw" (17 : Nat) ({ cls := "SharedSheet", name := "move", desc := "(IZII)I" } : Jvm.MethodName)) ∈ lw_all := lw_g (lw_at lw_m7 2 rfl) rfl
theorem q1545 : (Jvm.Cond.methodLink "SharedSheetLaw" (116 : Nat) ({ cls := "SharedSheetLaw", name := "remove", desc := "(LSharedSheet;IZI[J)I" } : Jvm.MethodName)) ∈ lw_all := lw_g (lw_at lw_m7 20 rfl) rfl
theorem q1546 : (Jvm.Cond.static ({ cls := "SharedSheetLaw", name := "remove", desc := "(LSharedSheet;IZI[J)I" } : Jvm.MethodName)) ∈ lw_all := lw_g (lw_at lw_m7 21 rfl) rfl
theorem q1547 : (Jvm.Cond.codeWith ({ cls := "SharedSheetLaw", name := "remove", desc := "(LSharedSheet;IZI[J)I" } : Jvm.MethodName) method_5_code (6 : Nat) (Option.some Jvm.ClassFile.FieldType.int) [((0 : Nat), (12 : Nat), (15 : Nat), (13 : Nat)), ((0 : Nat), (12 : Nat), (19 : Nat), (15 : Nat))]) ∈ lw_all := lw_g (lw_at lw_m7 22 rfl) rfl
theorem q1548 : (Jvm.Cond.methodLink "SharedSheetLaw" (21 : Nat) ({ cls := "SharedSheet", name := "remove", desc := "(IZI)I" } : Jvm.MethodName)) ∈ lw_all := lw_g (lw_at lw_m7 23 rfl) rfl
theorem q1552 : (Jvm.Cond.methodLink "SharedSheetLaw" (119 : Nat) ({ cls := "SharedSheetLaw", name := "shown", desc := "(LSharedSheet;IZ[J)I" } : Jvm.MethodName)) ∈ lw_all := lw_g (lw_at lw_m7 27 rfl) rfl
theorem q1553 : (Jvm.Cond.static ({ cls := "SharedSheetLaw", name := "shown", desc := "(LSharedSheet;IZ[J)I" } : Jvm.MethodName)) ∈ lw_all := lw_g (lw_at lw_m7 28 rfl) rfl
theorem q1554 : (Jvm.Cond.codeWith ({ cls := "SharedSheetLaw", name := "shown", desc := "(LSharedSheet;IZ[J)I" } : Jvm.MethodName) method_6_code (5 : Nat) (Option.some Jvm.ClassFile.FieldType.int) [((0 : Nat), (10 : Nat), (13 : Nat), (13 : Nat))]) ∈ lw_all := lw_g (lw_at lw_m7 29 rfl) rfl
theorem q1555 : (Jvm.Cond.methodLink "SharedSheetLaw" (24 : Nat) ({ cls := "SharedSheet", name := "shown", desc := "(IZ)I" } : Jvm.MethodName)) ∈ lw_all := lw_g (lw_at lw_m7 30 rfl) rfl
theorem q1559 : (Jvm.Cond.methodLink "SharedSheetLaw" (123 : Nat) ({ cls := "SharedSheetLaw", name := "line", desc := "(LSharedSheet;IZI[J)I" } : Jvm.MethodName)) ∈ lw_all := lw_g (lw_at lw_m7 34 rfl) rfl
theorem q1560 : (Jvm.Cond.static ({ cls := "SharedSheetLaw", name := "line", desc := "(LSharedSheet;IZI[J)I" } : Jvm.MethodName)) ∈ lw_all := lw_g (lw_at lw_m7 35 rfl) rfl
theorem q1561 : (Jvm.Cond.codeWith ({ cls := "SharedSheetLaw", name := "line", desc := "(LSharedSheet;IZI[J)I" } : Jvm.MethodName) method_7_code (6 : Nat) (Option.some Jvm.ClassFile.FieldType.int) [((0 : Nat), (12 : Nat), (15 : Nat), (13 : Nat))]) ∈ lw_all := lw_g (lw_at lw_m7 36 rfl) rfl
theorem q1562 : (Jvm.Cond.methodLink "SharedSheetLaw" (28 : Nat) ({ cls := "SharedSheet", name := "line", desc := "(IZI)I" } : Jvm.MethodName)) ∈ lw_all := lw_g (lw_at lw_m7 37 rfl) rfl
theorem q1566 : (Jvm.Cond.methodLink "SharedSheetLaw" (126 : Nat) ({ cls := "SharedSheetLaw", name := "position", desc := "(LSharedSheet;IZI[J)I" } : Jvm.MethodName)) ∈ lw_all := lw_g (lw_at lw_m7 41 rfl) rfl
theorem q1567 : (Jvm.Cond.static ({ cls := "SharedSheetLaw", name := "position", desc := "(LSharedSheet;IZI[J)I" } : Jvm.MethodName)) ∈ lw_all := lw_g (lw_at lw_m7 42 rfl) rfl
theorem q1568 : (Jvm.Cond.codeWith ({ cls := "SharedSheetLaw", name := "position", desc := "(LSharedSheet;IZI[J)I" } : Jvm.MethodName) method_8_code (6 : Nat) (Option.some Jvm.ClassFile.FieldType.int) [((0 : Nat), (12 : Nat), (15 : Nat), (13 : Nat)), ((0 : Nat), (12 : Nat), (19 : Nat), (34 : Nat))]) ∈ lw_all := lw_g (lw_at lw_m7 43 rfl) rfl
theorem q1569 : (Jvm.Cond.classLink "SharedSheetLaw" (34 : Nat) "java/lang/IllegalArgumentException") ∈ lw_all := lw_g (lw_at lw_m7 44 rfl) rfl
theorem q1570 : (Jvm.Cond.methodLink "SharedSheetLaw" (31 : Nat) ({ cls := "SharedSheet", name := "position", desc := "(IZI)I" } : Jvm.MethodName)) ∈ lw_all := lw_g (lw_at lw_m7 45 rfl) rfl
theorem q1582 : (Jvm.Cond.methodLink "SharedSheetLaw" (129 : Nat) ({ cls := "SharedSheetLaw", name := "place", desc := "(LSharedSheet;IZI[J)I" } : Jvm.MethodName)) ∈ lw_all := lw_g (lw_at lw_m7 57 rfl) rfl
theorem q1583 : (Jvm.Cond.static ({ cls := "SharedSheetLaw", name := "place", desc := "(LSharedSheet;IZI[J)I" } : Jvm.MethodName)) ∈ lw_all := lw_g (lw_at lw_m7 58 rfl) rfl
theorem q1584 : (Jvm.Cond.codeWith ({ cls := "SharedSheetLaw", name := "place", desc := "(LSharedSheet;IZI[J)I" } : Jvm.MethodName) method_9_code (6 : Nat) (Option.some Jvm.ClassFile.FieldType.int) [((0 : Nat), (12 : Nat), (15 : Nat), (13 : Nat)), ((0 : Nat), (12 : Nat), (19 : Nat), (34 : Nat))]) ∈ lw_all := lw_g (lw_at lw_m7 59 rfl) rfl
theorem q1585 : (Jvm.Cond.methodLink "SharedSheetLaw" (36 : Nat) ({ cls := "SharedSheet", name := "place", desc := "(IZI)I" } : Jvm.MethodName)) ∈ lw_all := lw_g (lw_at lw_m7 60 rfl) rfl
theorem q1589 : (Jvm.Cond.methodLink "SharedSheetLaw" (132 : Nat) ({ cls := "SharedSheetLaw", name := "setNumber", desc := "(LSharedSheet;IIII[J)I" } : Jvm.MethodName)) ∈ lw_all := lw_g (lw_at lw_m7 64 rfl) rfl
theorem q1590 : (Jvm.Cond.static ({ cls := "SharedSheetLaw", name := "setNumber", desc := "(LSharedSheet;IIII[J)I" } : Jvm.MethodName)) ∈ lw_all := lw_g (lw_at lw_m7 65 rfl) rfl
theorem q1591 : (Jvm.Cond.codeWith ({ cls := "SharedSheetLaw", name := "setNumber", desc := "(LSharedSheet;IIII[J)I" } : Jvm.MethodName) method_10_code (7 : Nat) (Option.some Jvm.ClassFile.FieldType.int) [((0 : Nat), (14 : Nat), (17 : Nat), (13 : Nat)), ((0 : Nat), (14 : Nat), (21 : Nat), (34 : Nat)), ((0 : Nat), (14 : Nat), (25 : Nat), (15 : Nat))]) ∈ lw_all := lw_g (lw_at lw_m7 66 rfl) rfl
theorem q1592 : (Jvm.Cond.methodLink "SharedSheetLaw" (39 : Nat) ({ cls := "SharedSheet", name := "setNumber", desc := "(IIII)I" } : Jvm.MethodName)) ∈ lw_all := lw_g (lw_at lw_m7 67 rfl) rfl
theorem q1604 : (Jvm.Cond.methodLink "SharedSheetLaw" (136 : Nat) ({ cls := "SharedSheetLaw", name := "clearCell", desc := "(LSharedSheet;III[J)I" } : Jvm.MethodName)) ∈ lw_all := lw_g (lw_at lw_m7 79 rfl) rfl
theorem q1605 : (Jvm.Cond.static ({ cls := "SharedSheetLaw", name := "clearCell", desc := "(LSharedSheet;III[J)I" } : Jvm.MethodName)) ∈ lw_all := lw_g (lw_at lw_m7 80 rfl) rfl
theorem q1606 : (Jvm.Cond.codeWith ({ cls := "SharedSheetLaw", name := "clearCell", desc := "(LSharedSheet;III[J)I" } : Jvm.MethodName) method_11_code (6 : Nat) (Option.some Jvm.ClassFile.FieldType.int) [((0 : Nat), (12 : Nat), (15 : Nat), (13 : Nat)), ((0 : Nat), (12 : Nat), (19 : Nat), (15 : Nat))]) ∈ lw_all := lw_g (lw_at lw_m7 81 rfl) rfl
theorem q1607 : (Jvm.Cond.methodLink "SharedSheetLaw" (43 : Nat) ({ cls := "SharedSheet", name := "clearCell", desc := "(III)I" } : Jvm.MethodName)) ∈ lw_all := lw_g (lw_at lw_m7 82 rfl) rfl
theorem q1612 : (Jvm.Cond.methodLink "SharedSheetLaw" (140 : Nat) ({ cls := "SharedSheetLaw", name := "setFormula", desc := "(LSharedSheet;III[J)I" } : Jvm.MethodName)) ∈ lw_all := lw_g (lw_at lw_m7 87 rfl) rfl
theorem q1613 : (Jvm.Cond.static ({ cls := "SharedSheetLaw", name := "setFormula", desc := "(LSharedSheet;III[J)I" } : Jvm.MethodName)) ∈ lw_all := lw_g (lw_at lw_m7 88 rfl) rfl
theorem q1614 : (Jvm.Cond.codeWith ({ cls := "SharedSheetLaw", name := "setFormula", desc := "(LSharedSheet;III[J)I" } : Jvm.MethodName) method_12_code (6 : Nat) (Option.some Jvm.ClassFile.FieldType.int) [((0 : Nat), (12 : Nat), (15 : Nat), (13 : Nat)), ((0 : Nat), (12 : Nat), (19 : Nat), (34 : Nat)), ((0 : Nat), (12 : Nat), (23 : Nat), (15 : Nat))]) ∈ lw_all := lw_g (lw_at lw_m7 89 rfl) rfl
theorem q1615 : (Jvm.Cond.methodLink "SharedSheetLaw" (47 : Nat) ({ cls := "SharedSheet", name := "setFormula", desc := "(III)I" } : Jvm.MethodName)) ∈ lw_all := lw_g (lw_at lw_m7 90 rfl) rfl
theorem q1771 : (Jvm.Cond.methodLink "SharedSheetLaw" (143 : Nat) ({ cls := "SharedSheetLaw", name := "cell", desc := "(LSharedSheet;IIII[J)I" } : Jvm.MethodName)) ∈ lw_all := lw_g (lw_at lw_m8 6 rfl) rfl
theorem q1772 : (Jvm.Cond.static ({ cls := "SharedSheetLaw", name := "cell", desc := "(LSharedSheet;IIII[J)I" } : Jvm.MethodName)) ∈ lw_all := lw_g (lw_at lw_m8 7 rfl) rfl
theorem q1773 : (Jvm.Cond.codeWith ({ cls := "SharedSheetLaw", name := "cell", desc := "(LSharedSheet;IIII[J)I" } : Jvm.MethodName) method_13_code (7 : Nat) (Option.some Jvm.ClassFile.FieldType.int) [((0 : Nat), (14 : Nat), (17 : Nat), (13 : Nat)), ((0 : Nat), (14 : Nat), (21 : Nat), (34 : Nat))]) ∈ lw_all := lw_g (lw_at lw_m8 8 rfl) rfl
theorem q1774 : (Jvm.Cond.methodLink "SharedSheetLaw" (50 : Nat) ({ cls := "SharedSheet", name := "cell", desc := "(IIII)I" } : Jvm.MethodName)) ∈ lw_all := lw_g (lw_at lw_m8 9 rfl) rfl
theorem q1778 : (Jvm.Cond.methodLink "SharedSheetLaw" (146 : Nat) ({ cls := "SharedSheetLaw", name := "value", desc := "(LSharedSheet;III[J)I" } : Jvm.MethodName)) ∈ lw_all := lw_g (lw_at lw_m8 13 rfl) rfl
theorem q1779 : (Jvm.Cond.static ({ cls := "SharedSheetLaw", name := "value", desc := "(LSharedSheet;III[J)I" } : Jvm.MethodName)) ∈ lw_all := lw_g (lw_at lw_m8 14 rfl) rfl
theorem q1780 : (Jvm.Cond.codeWith ({ cls := "SharedSheetLaw", name := "value", desc := "(LSharedSheet;III[J)I" } : Jvm.MethodName) method_14_code (6 : Nat) (Option.some Jvm.ClassFile.FieldType.int) [((0 : Nat), (12 : Nat), (15 : Nat), (13 : Nat))]) ∈ lw_all := lw_g (lw_at lw_m8 15 rfl) rfl
theorem q1781 : (Jvm.Cond.methodLink "SharedSheetLaw" (53 : Nat) ({ cls := "SharedSheet", name := "value", desc := "(III)I" } : Jvm.MethodName)) ∈ lw_all := lw_g (lw_at lw_m8 16 rfl) rfl
theorem q1785 : (Jvm.Cond.methodLink "SharedSheetLaw" (149 : Nat) ({ cls := "SharedSheetLaw", name := "error", desc := "(LSharedSheet;III[J)I" } : Jvm.MethodName)) ∈ lw_all := lw_g (lw_at lw_m8 20 rfl) rfl
theorem q1786 : (Jvm.Cond.static ({ cls := "SharedSheetLaw", name := "error", desc := "(LSharedSheet;III[J)I" } : Jvm.MethodName)) ∈ lw_all := lw_g (lw_at lw_m8 21 rfl) rfl
theorem q1787 : (Jvm.Cond.codeWith ({ cls := "SharedSheetLaw", name := "error", desc := "(LSharedSheet;III[J)I" } : Jvm.MethodName) method_15_code (6 : Nat) (Option.some Jvm.ClassFile.FieldType.int) [((0 : Nat), (12 : Nat), (15 : Nat), (13 : Nat))]) ∈ lw_all := lw_g (lw_at lw_m8 22 rfl) rfl
theorem q1788 : (Jvm.Cond.methodLink "SharedSheetLaw" (56 : Nat) ({ cls := "SharedSheet", name := "error", desc := "(III)I" } : Jvm.MethodName)) ∈ lw_all := lw_g (lw_at lw_m8 23 rfl) rfl
theorem q1792 : (Jvm.Cond.methodLink "SharedSheetLaw" (152 : Nat) ({ cls := "SharedSheetLaw", name := "write", desc := "(LSharedSheet;III[J)I" } : Jvm.MethodName)) ∈ lw_all := lw_g (lw_at lw_m8 27 rfl) rfl
theorem q1793 : (Jvm.Cond.static ({ cls := "SharedSheetLaw", name := "write", desc := "(LSharedSheet;III[J)I" } : Jvm.MethodName)) ∈ lw_all := lw_g (lw_at lw_m8 28 rfl) rfl
theorem q1794 : (Jvm.Cond.codeWith ({ cls := "SharedSheetLaw", name := "write", desc := "(LSharedSheet;III[J)I" } : Jvm.MethodName) method_16_code (6 : Nat) (Option.some Jvm.ClassFile.FieldType.int) [((0 : Nat), (12 : Nat), (15 : Nat), (13 : Nat)), ((0 : Nat), (12 : Nat), (19 : Nat), (15 : Nat))]) ∈ lw_all := lw_g (lw_at lw_m8 29 rfl) rfl
theorem q1795 : (Jvm.Cond.methodLink "SharedSheetLaw" (59 : Nat) ({ cls := "SharedSheet", name := "write", desc := "(III)I" } : Jvm.MethodName)) ∈ lw_all := lw_g (lw_at lw_m8 30 rfl) rfl
theorem q1825 : (Jvm.Cond.methodLink "SharedSheetLaw" (155 : Nat) ({ cls := "SharedSheetLaw", name := "cycles", desc := "(LSharedSheet;I[J)I" } : Jvm.MethodName)) ∈ lw_all := lw_g (lw_at lw_m8 60 rfl) rfl
theorem q1826 : (Jvm.Cond.static ({ cls := "SharedSheetLaw", name := "cycles", desc := "(LSharedSheet;I[J)I" } : Jvm.MethodName)) ∈ lw_all := lw_g (lw_at lw_m8 61 rfl) rfl
theorem q1827 : (Jvm.Cond.codeWith ({ cls := "SharedSheetLaw", name := "cycles", desc := "(LSharedSheet;I[J)I" } : Jvm.MethodName) method_17_code (4 : Nat) (Option.some Jvm.ClassFile.FieldType.int) [((0 : Nat), (9 : Nat), (12 : Nat), (13 : Nat))]) ∈ lw_all := lw_g (lw_at lw_m8 62 rfl) rfl
theorem q1828 : (Jvm.Cond.methodLink "SharedSheetLaw" (62 : Nat) ({ cls := "SharedSheet", name := "cycles", desc := "(I)I" } : Jvm.MethodName)) ∈ lw_all := lw_g (lw_at lw_m8 63 rfl) rfl
theorem q1832 : (Jvm.Cond.methodLink "SharedSheetLaw" (159 : Nat) ({ cls := "SharedSheetLaw", name := "order", desc := "(LSharedSheet;II[J)I" } : Jvm.MethodName)) ∈ lw_all := lw_g (lw_at lw_m8 67 rfl) rfl
theorem q1833 : (Jvm.Cond.static ({ cls := "SharedSheetLaw", name := "order", desc := "(LSharedSheet;II[J)I" } : Jvm.MethodName)) ∈ lw_all := lw_g (lw_at lw_m8 68 rfl) rfl
theorem q1834 : (Jvm.Cond.codeWith ({ cls := "SharedSheetLaw", name := "order", desc := "(LSharedSheet;II[J)I" } : Jvm.MethodName) method_18_code (5 : Nat) (Option.some Jvm.ClassFile.FieldType.int) [((0 : Nat), (10 : Nat), (13 : Nat), (13 : Nat))]) ∈ lw_all := lw_g (lw_at lw_m8 69 rfl) rfl
theorem q1835 : (Jvm.Cond.methodLink "SharedSheetLaw" (66 : Nat) ({ cls := "SharedSheet", name := "order", desc := "(II)I" } : Jvm.MethodName)) ∈ lw_all := lw_g (lw_at lw_m8 70 rfl) rfl
theorem q1839 : (Jvm.Cond.methodLink "SharedSheetLaw" (163 : Nat) ({ cls := "SharedSheetLaw", name := "receive", desc := "(LSharedSheet;III[J)I" } : Jvm.MethodName)) ∈ lw_all := lw_g (lw_at lw_m8 74 rfl) rfl
theorem q1840 : (Jvm.Cond.static ({ cls := "SharedSheetLaw", name := "receive", desc := "(LSharedSheet;III[J)I" } : Jvm.MethodName)) ∈ lw_all := lw_g (lw_at lw_m8 75 rfl) rfl
theorem q1841 : (Jvm.Cond.codeWith ({ cls := "SharedSheetLaw", name := "receive", desc := "(LSharedSheet;III[J)I" } : Jvm.MethodName) method_19_code (6 : Nat) (Option.some Jvm.ClassFile.FieldType.int) [((0 : Nat), (12 : Nat), (15 : Nat), (13 : Nat)), ((0 : Nat), (12 : Nat), (19 : Nat), (34 : Nat))]) ∈ lw_all := lw_g (lw_at lw_m8 76 rfl) rfl
theorem q1842 : (Jvm.Cond.methodLink "SharedSheetLaw" (70 : Nat) ({ cls := "SharedSheet", name := "receive", desc := "(III)I" } : Jvm.MethodName)) ∈ lw_all := lw_g (lw_at lw_m8 77 rfl) rfl
theorem q1846 : (Jvm.Cond.methodLink "SharedSheetLaw" (170 : Nat) ({ cls := "SharedSheetLaw", name := "missing", desc := "(LSharedSheet;II[J)I" } : Jvm.MethodName)) ∈ lw_all := lw_g (lw_at lw_m8 81 rfl) rfl
theorem q1847 : (Jvm.Cond.static ({ cls := "SharedSheetLaw", name := "missing", desc := "(LSharedSheet;II[J)I" } : Jvm.MethodName)) ∈ lw_all := lw_g (lw_at lw_m8 82 rfl) rfl
theorem q1848 : (Jvm.Cond.codeWith ({ cls := "SharedSheetLaw", name := "missing", desc := "(LSharedSheet;II[J)I" } : Jvm.MethodName) method_20_code (5 : Nat) (Option.some Jvm.ClassFile.FieldType.int) [((0 : Nat), (10 : Nat), (13 : Nat), (13 : Nat)), ((0 : Nat), (10 : Nat), (17 : Nat), (34 : Nat))]) ∈ lw_all := lw_g (lw_at lw_m8 83 rfl) rfl
theorem q1849 : (Jvm.Cond.methodLink "SharedSheetLaw" (73 : Nat) ({ cls := "SharedSheet", name := "missing", desc := "(II)I" } : Jvm.MethodName)) ∈ lw_all := lw_g (lw_at lw_m8 84 rfl) rfl
theorem q1853 : (Jvm.Cond.methodLink "SharedSheetLaw" (173 : Nat) ({ cls := "SharedSheetLaw", name := "clock", desc := "(LSharedSheet;I[J)I" } : Jvm.MethodName)) ∈ lw_all := lw_g (lw_at lw_m8 88 rfl) rfl
theorem q1854 : (Jvm.Cond.static ({ cls := "SharedSheetLaw", name := "clock", desc := "(LSharedSheet;I[J)I" } : Jvm.MethodName)) ∈ lw_all := lw_g (lw_at lw_m8 89 rfl) rfl
theorem q1855 : (Jvm.Cond.codeWith ({ cls := "SharedSheetLaw", name := "clock", desc := "(LSharedSheet;I[J)I" } : Jvm.MethodName) method_21_code (4 : Nat) (Option.some Jvm.ClassFile.FieldType.int) [((0 : Nat), (9 : Nat), (12 : Nat), (13 : Nat))]) ∈ lw_all := lw_g (lw_at lw_m8 90 rfl) rfl
theorem q1856 : (Jvm.Cond.methodLink "SharedSheetLaw" (76 : Nat) ({ cls := "SharedSheet", name := "clock", desc := "(I)I" } : Jvm.MethodName)) ∈ lw_all := lw_g (lw_at lw_m8 91 rfl) rfl
theorem q1860 : (Jvm.Cond.methodLink "SharedSheetLaw" (176 : Nat) ({ cls := "SharedSheetLaw", name := "operation", desc := "(LSharedSheet;III[J)I" } : Jvm.MethodName)) ∈ lw_all := lw_g (lw_at lw_m8 95 rfl) rfl
theorem q1861 : (Jvm.Cond.static ({ cls := "SharedSheetLaw", name := "operation", desc := "(LSharedSheet;III[J)I" } : Jvm.MethodName)) ∈ lw_all := lw_g (lw_at lw_m8 96 rfl) rfl
theorem q1862 : (Jvm.Cond.codeWith ({ cls := "SharedSheetLaw", name := "operation", desc := "(LSharedSheet;III[J)I" } : Jvm.MethodName) method_22_code (6 : Nat) (Option.some Jvm.ClassFile.FieldType.int) [((0 : Nat), (12 : Nat), (15 : Nat), (13 : Nat)), ((0 : Nat), (12 : Nat), (19 : Nat), (34 : Nat))]) ∈ lw_all := lw_g (lw_at lw_m8 97 rfl) rfl
theorem q1863 : (Jvm.Cond.methodLink "SharedSheetLaw" (79 : Nat) ({ cls := "SharedSheet", name := "operation", desc := "(III)I" } : Jvm.MethodName)) ∈ lw_all := lw_g (lw_at lw_m8 98 rfl) rfl
theorem q1872 : (Jvm.Cond.methodLink "SharedSheetLaw" (179 : Nat) ({ cls := "SharedSheetLaw", name := "areAlike", desc := "(LSharedSheet;II[J)I" } : Jvm.MethodName)) ∈ lw_all := lw_g (lw_at lw_m8 107 rfl) rfl
theorem q1873 : (Jvm.Cond.static ({ cls := "SharedSheetLaw", name := "areAlike", desc := "(LSharedSheet;II[J)I" } : Jvm.MethodName)) ∈ lw_all := lw_g (lw_at lw_m8 108 rfl) rfl
theorem q1874 : (Jvm.Cond.codeWith ({ cls := "SharedSheetLaw", name := "areAlike", desc := "(LSharedSheet;II[J)I" } : Jvm.MethodName) method_23_code (5 : Nat) (Option.some Jvm.ClassFile.FieldType.int) [((0 : Nat), (17 : Nat), (20 : Nat), (13 : Nat))]) ∈ lw_all := lw_g (lw_at lw_m8 109 rfl) rfl
theorem q1875 : (Jvm.Cond.methodLink "SharedSheetLaw" (82 : Nat) ({ cls := "SharedSheet", name := "areAlike", desc := "(II)Z" } : Jvm.MethodName)) ∈ lw_all := lw_g (lw_at lw_m8 110 rfl) rfl
theorem q1885 : (Jvm.Cond.methodLink "SharedSheetLaw" (182 : Nat) ({ cls := "SharedSheetLaw", name := "different", desc := "(LSharedSheet;II[J)I" } : Jvm.MethodName)) ∈ lw_all := lw_g (lw_at lw_m8 120 rfl) rfl
theorem q1886 : (Jvm.Cond.static ({ cls := "SharedSheetLaw", name := "different", desc := "(LSharedSheet;II[J)I" } : Jvm.MethodName)) ∈ lw_all := lw_g (lw_at lw_m8 121 rfl) rfl
theorem q1887 : (Jvm.Cond.codeWith ({ cls := "SharedSheetLaw", name := "different", desc := "(LSharedSheet;II[J)I" } : Jvm.MethodName) method_24_code (5 : Nat) (Option.some Jvm.ClassFile.FieldType.int) [((0 : Nat), (10 : Nat), (13 : Nat), (13 : Nat))]) ∈ lw_all := lw_g (lw_at lw_m8 122 rfl) rfl
theorem q1888 : (Jvm.Cond.methodLink "SharedSheetLaw" (86 : Nat) ({ cls := "SharedSheet", name := "different", desc := "(II)I" } : Jvm.MethodName)) ∈ lw_all := lw_g (lw_at lw_m8 123 rfl) rfl
theorem q1894 : (Jvm.Cond.methodLink "SharedSheetLaw" (185 : Nat) ({ cls := "SharedSheetLaw", name := "type", desc := "(LSharedSheet;I[J)I" } : Jvm.MethodName)) ∈ lw_all := lw_g (lw_at lw_m8 129 rfl) rfl
theorem q1895 : (Jvm.Cond.static ({ cls := "SharedSheetLaw", name := "type", desc := "(LSharedSheet;I[J)I" } : Jvm.MethodName)) ∈ lw_all := lw_g (lw_at lw_m8 130 rfl) rfl
theorem q1896 : (Jvm.Cond.codeWith ({ cls := "SharedSheetLaw", name := "type", desc := "(LSharedSheet;I[J)I" } : Jvm.MethodName) method_25_code (4 : Nat) (Option.some Jvm.ClassFile.FieldType.int) [((0 : Nat), (9 : Nat), (12 : Nat), (34 : Nat)), ((0 : Nat), (9 : Nat), (15 : Nat), (15 : Nat))]) ∈ lw_all := lw_g (lw_at lw_m8 131 rfl) rfl
theorem q1897 : (Jvm.Cond.methodLink "SharedSheetLaw" (89 : Nat) ({ cls := "SharedSheet", name := "type", desc := "(I)I" } : Jvm.MethodName)) ∈ lw_all := lw_g (lw_at lw_m8 132 rfl) rfl
theorem q1902 : (Jvm.Cond.methodLink "SharedSheetLaw" (192 : Nat) ({ cls := "SharedSheetLaw", name := "fault", desc := "(LSharedSheet;I[J)I" } : Jvm.MethodName)) ∈ lw_all := lw_g (lw_at lw_m8 137 rfl) rfl
theorem q1903 : (Jvm.Cond.static ({ cls := "SharedSheetLaw", name := "fault", desc := "(LSharedSheet;I[J)I" } : Jvm.MethodName)) ∈ lw_all := lw_g (lw_at lw_m8 138 rfl) rfl
theorem q1904 : (Jvm.Cond.codeWith ({ cls := "SharedSheetLaw", name := "fault", desc := "(LSharedSheet;I[J)I" } : Jvm.MethodName) method_26_code (4 : Nat) (Option.some Jvm.ClassFile.FieldType.int) [((0 : Nat), (9 : Nat), (12 : Nat), (13 : Nat))]) ∈ lw_all := lw_g (lw_at lw_m8 139 rfl) rfl
theorem q1905 : (Jvm.Cond.methodLink "SharedSheetLaw" (92 : Nat) ({ cls := "SharedSheet", name := "fault", desc := "(I)I" } : Jvm.MethodName)) ∈ lw_all := lw_g (lw_at lw_m8 140 rfl) rfl
theorem q1909 : (Jvm.Cond.methodLink "SharedSheetLaw" (199 : Nat) ({ cls := "SharedSheetLaw", name := "undo", desc := "(LSharedSheet;[J)I" } : Jvm.MethodName)) ∈ lw_all := lw_g (lw_at lw_m8 144 rfl) rfl
theorem q1910 : (Jvm.Cond.static ({ cls := "SharedSheetLaw", name := "undo", desc := "(LSharedSheet;[J)I" } : Jvm.MethodName)) ∈ lw_all := lw_g (lw_at lw_m8 145 rfl) rfl
theorem q1911 : (Jvm.Cond.codeWith ({ cls := "SharedSheetLaw", name := "undo", desc := "(LSharedSheet;[J)I" } : Jvm.MethodName) method_27_code (3 : Nat) (Option.some Jvm.ClassFile.FieldType.int) [((0 : Nat), (8 : Nat), (11 : Nat), (15 : Nat))]) ∈ lw_all := lw_g (lw_at lw_m8 146 rfl) rfl
theorem q1912 : (Jvm.Cond.methodLink "SharedSheetLaw" (95 : Nat) ({ cls := "SharedSheet", name := "undo", desc := "()I" } : Jvm.MethodName)) ∈ lw_all := lw_g (lw_at lw_m8 147 rfl) rfl
theorem q1932 : (Jvm.Cond.classLink "SharedSheetLaw" (100 : Nat) "SharedSheetModel") ∈ lw_all := lw_g (lw_at lw_m8 167 rfl) rfl
theorem q1934 : (Jvm.Cond.methodLink "SharedSheetLaw" (102 : Nat) ({ cls := "SharedSheetModel", name := "<init>", desc := "()V" } : Jvm.MethodName)) ∈ lw_all := lw_g (lw_at lw_m8 169 rfl) rfl
theorem q2035 : (Jvm.Cond.methodLink "SharedSheetLaw" (109 : Nat) ({ cls := "SharedSheetModel", name := "thrown", desc := "()I" } : Jvm.MethodName)) ∈ lw_all := lw_g (lw_at lw_m9 30 rfl) rfl
theorem q2039 : (Jvm.Cond.methodLink "SharedSheetLaw" (108 : Nat) ({ cls := "SharedSheetModel", name := "make", desc := "(IZI)I" } : Jvm.MethodName)) ∈ lw_all := lw_g (lw_at lw_m9 34 rfl) rfl
theorem q2107 : (Jvm.Cond.methodLink "SharedSheetLaw" (115 : Nat) ({ cls := "SharedSheetModel", name := "move", desc := "(IZII)I" } : Jvm.MethodName)) ∈ lw_all := lw_g (lw_at lw_m9 102 rfl) rfl
theorem q2115 : (Jvm.Cond.methodLink "SharedSheetLaw" (118 : Nat) ({ cls := "SharedSheetModel", name := "remove", desc := "(IZI)I" } : Jvm.MethodName)) ∈ lw_all := lw_g (lw_at lw_m9 110 rfl) rfl
theorem q2119 : (Jvm.Cond.methodLink "SharedSheetLaw" (122 : Nat) ({ cls := "SharedSheetModel", name := "shown", desc := "(IZ)I" } : Jvm.MethodName)) ∈ lw_all := lw_g (lw_at lw_m9 114 rfl) rfl
theorem q2123 : (Jvm.Cond.methodLink "SharedSheetLaw" (125 : Nat) ({ cls := "SharedSheetModel", name := "line", desc := "(IZI)I" } : Jvm.MethodName)) ∈ lw_all := lw_g (lw_at lw_m9 118 rfl) rfl
theorem q2127 : (Jvm.Cond.methodLink "SharedSheetLaw" (128 : Nat) ({ cls := "SharedSheetModel", name := "position", desc := "(IZI)I" } : Jvm.MethodName)) ∈ lw_all := lw_g (lw_at lw_m9 122 rfl) rfl
theorem q2131 : (Jvm.Cond.methodLink "SharedSheetLaw" (131 : Nat) ({ cls := "SharedSheetModel", name := "place", desc := "(IZI)I" } : Jvm.MethodName)) ∈ lw_all := lw_g (lw_at lw_m9 126 rfl) rfl
theorem q2135 : (Jvm.Cond.methodLink "SharedSheetLaw" (135 : Nat) ({ cls := "SharedSheetModel", name := "setNumber", desc := "(IIII)I" } : Jvm.MethodName)) ∈ lw_all := lw_g (lw_at lw_m9 130 rfl) rfl
theorem q2151 : (Jvm.Cond.methodLink "SharedSheetLaw" (139 : Nat) ({ cls := "SharedSheetModel", name := "clearCell", desc := "(III)I" } : Jvm.MethodName)) ∈ lw_all := lw_g (lw_at lw_m9 146 rfl) rfl
theorem q2155 : (Jvm.Cond.methodLink "SharedSheetLaw" (142 : Nat) ({ cls := "SharedSheetModel", name := "setFormula", desc := "(III)I" } : Jvm.MethodName)) ∈ lw_all := lw_g (lw_at lw_m9 150 rfl) rfl
theorem q2183 : (Jvm.Cond.methodLink "SharedSheetLaw" (194 : Nat) ({ cls := "SharedSheetModel", name := "fault", desc := "(I)I" } : Jvm.MethodName)) ∈ lw_all := lw_g (lw_at lw_m9 178 rfl) rfl
theorem q2187 : (Jvm.Cond.methodLink "SharedSheetLaw" (145 : Nat) ({ cls := "SharedSheetModel", name := "cell", desc := "(IIII)I" } : Jvm.MethodName)) ∈ lw_all := lw_g (lw_at lw_m9 182 rfl) rfl
theorem q2236 : (Jvm.Cond.methodLink "SharedSheetLaw" (148 : Nat) ({ cls := "SharedSheetModel", name := "value", desc := "(III)I" } : Jvm.MethodName)) ∈ lw_all := lw_g (lw_at lw_m9 231 rfl) rfl
theorem q2269 : (Jvm.Cond.methodLink "SharedSheetLaw" (151 : Nat) ({ cls := "SharedSheetModel", name := "error", desc := "(III)I" } : Jvm.MethodName)) ∈ lw_all := lw_g (lw_at lw_m10 24 rfl) rfl
theorem q2273 : (Jvm.Cond.methodLink "SharedSheetLaw" (154 : Nat) ({ cls := "SharedSheetModel", name := "write", desc := "(III)I" } : Jvm.MethodName)) ∈ lw_all := lw_g (lw_at lw_m10 28 rfl) rfl
theorem q2289 : (Jvm.Cond.methodLink "SharedSheetLaw" (158 : Nat) ({ cls := "SharedSheetModel", name := "cycles", desc := "(I)I" } : Jvm.MethodName)) ∈ lw_all := lw_g (lw_at lw_m10 44 rfl) rfl
theorem q2297 : (Jvm.Cond.methodLink "SharedSheetLaw" (162 : Nat) ({ cls := "SharedSheetModel", name := "order", desc := "(II)I" } : Jvm.MethodName)) ∈ lw_all := lw_g (lw_at lw_m10 52 rfl) rfl
theorem q2305 : (Jvm.Cond.methodLink "SharedSheetLaw" (165 : Nat) ({ cls := "SharedSheetModel", name := "receive", desc := "(III)I" } : Jvm.MethodName)) ∈ lw_all := lw_g (lw_at lw_m10 60 rfl) rfl
theorem q2317 : (Jvm.Cond.methodLink "SharedSheetLaw" (169 : Nat) ({ cls := "SharedSheetModel", name := "settle", desc := "()I" } : Jvm.MethodName)) ∈ lw_all := lw_g (lw_at lw_m10 72 rfl) rfl
theorem q2321 : (Jvm.Cond.methodLink "SharedSheetLaw" (172 : Nat) ({ cls := "SharedSheetModel", name := "missing", desc := "(II)I" } : Jvm.MethodName)) ∈ lw_all := lw_g (lw_at lw_m10 76 rfl) rfl
theorem q2325 : (Jvm.Cond.methodLink "SharedSheetLaw" (175 : Nat) ({ cls := "SharedSheetModel", name := "clock", desc := "(I)I" } : Jvm.MethodName)) ∈ lw_all := lw_g (lw_at lw_m10 80 rfl) rfl
theorem q2329 : (Jvm.Cond.methodLink "SharedSheetLaw" (178 : Nat) ({ cls := "SharedSheetModel", name := "operation", desc := "(III)I" } : Jvm.MethodName)) ∈ lw_all := lw_g (lw_at lw_m10 84 rfl) rfl
theorem q2333 : (Jvm.Cond.methodLink "SharedSheetLaw" (181 : Nat) ({ cls := "SharedSheetModel", name := "areAlike", desc := "(II)Z" } : Jvm.MethodName)) ∈ lw_all := lw_g (lw_at lw_m10 88 rfl) rfl
theorem q2341 : (Jvm.Cond.methodLink "SharedSheetLaw" (184 : Nat) ({ cls := "SharedSheetModel", name := "different", desc := "(II)I" } : Jvm.MethodName)) ∈ lw_all := lw_g (lw_at lw_m10 96 rfl) rfl
theorem q2345 : (Jvm.Cond.methodLink "SharedSheetLaw" (187 : Nat) ({ cls := "SharedSheetModel", name := "type", desc := "(I)I" } : Jvm.MethodName)) ∈ lw_all := lw_g (lw_at lw_m10 100 rfl) rfl
theorem q2349 : (Jvm.Cond.methodLink "SharedSheetLaw" (191 : Nat) ({ cls := "SharedSheetModel", name := "clearText", desc := "()I" } : Jvm.MethodName)) ∈ lw_all := lw_g (lw_at lw_m10 104 rfl) rfl
theorem q2353 : (Jvm.Cond.methodLink "SharedSheetLaw" (198 : Nat) ({ cls := "SharedSheetModel", name := "character", desc := "(I)I" } : Jvm.MethodName)) ∈ lw_all := lw_g (lw_at lw_m10 108 rfl) rfl
theorem q2357 : (Jvm.Cond.methodLink "SharedSheetLaw" (202 : Nat) ({ cls := "SharedSheetModel", name := "undo", desc := "()I" } : Jvm.MethodName)) ∈ lw_all := lw_g (lw_at lw_m10 112 rfl) rfl
theorem q2361 : (Jvm.Cond.methodLink "SharedSheetLaw" (207 : Nat) ({ cls := "SharedSheetModel", name := "checksum", desc := "()J" } : Jvm.MethodName)) ∈ lw_all := lw_g (lw_at lw_m10 116 rfl) rfl
/-! the law's own entry -/
set_option maxRecDepth 100000
abbrev cL_law : ByteArray := code
def dkwL_law_89 : List UInt8 := [153, 0, 5, 3, 172, 132, 4, 5, 167, 247, 128, 4, 172]
abbrev dktL_law_89 : List UInt8 := dkwL_law_89 ++ []
def dkwL_law_88 : List UInt8 := [45, 3, 47, 21, 6, 133, 148, 153, 0, 5, 3, 172, 167, 0, 17, 43, 182, 0, 203, 44, 182, 0, 207, 148]
abbrev dktL_law_88 : List UInt8 := dkwL_law_88 ++ dktL_law_89
def dkwL_law_87 : List UInt8 := [54, 5, 44, 182, 0, 202, 54, 6, 44, 182, 0, 109, 21, 5, 159, 0, 5, 3, 172, 21, 5, 154, 0, 15]
abbrev dktL_law_87 : List UInt8 := dkwL_law_87 ++ dktL_law_88
def dkwL_law_86 : List UInt8 := [46, 182, 0, 195, 44, 42, 21, 4, 4, 96, 46, 182, 0, 198, 159, 0, 63, 3, 172, 43, 45, 184, 0, 199]
abbrev dktL_law_86 : List UInt8 := dkwL_law_86 ++ dktL_law_87
def dkwL_law_85 : List UInt8 := [154, 0, 15, 45, 3, 47, 21, 6, 133, 148, 153, 0, 5, 3, 172, 167, 0, 86, 43, 42, 21, 4, 4, 96]
abbrev dktL_law_85 : List UInt8 := dkwL_law_85 ++ dktL_law_86
def dkwL_law_84 : List UInt8 := [21, 4, 4, 96, 46, 182, 0, 194, 54, 6, 44, 182, 0, 109, 21, 5, 159, 0, 5, 3, 172, 21, 5]
abbrev dktL_law_84 : List UInt8 := dkwL_law_84 ++ dktL_law_85
def dkwL_law_83 : List UInt8 := [182, 0, 191, 159, 0, 144, 3, 172, 43, 42, 21, 4, 4, 96, 46, 45, 184, 0, 192, 54, 5, 44, 42]
abbrev dktL_law_83 : List UInt8 := dkwL_law_83 ++ dktL_law_84
def dkwL_law_82 : List UInt8 := [154, 0, 15, 45, 3, 47, 21, 6, 133, 148, 153, 0, 5, 3, 172, 167, 0, 155, 43, 182, 0, 188, 44]
abbrev dktL_law_82 : List UInt8 := dkwL_law_82 ++ dktL_law_83
def dkwL_law_81 : List UInt8 := [21, 4, 4, 96, 46, 182, 0, 187, 54, 6, 44, 182, 0, 109, 21, 5, 159, 0, 5, 3, 172, 21, 5]
abbrev dktL_law_81 : List UInt8 := dkwL_law_81 ++ dktL_law_82
def dkwL_law_80 : List UInt8 := [148, 153, 0, 5, 3, 172, 167, 0, 211, 43, 42, 21, 4, 4, 96, 46, 45, 184, 0, 185, 54, 5, 44, 42]
abbrev dktL_law_80 : List UInt8 := dkwL_law_80 ++ dktL_law_81
def dkwL_law_79 : List UInt8 := [54, 6, 44, 182, 0, 109, 21, 5, 159, 0, 5, 3, 172, 21, 5, 154, 0, 15, 45, 3, 47, 21, 6, 133]
abbrev dktL_law_79 : List UInt8 := dkwL_law_79 ++ dktL_law_80
def dkwL_law_78 : List UInt8 := [96, 46, 45, 184, 0, 182, 54, 5, 44, 42, 21, 4, 4, 96, 46, 42, 21, 4, 5, 96, 46, 182, 0, 184]
abbrev dktL_law_78 : List UInt8 := dkwL_law_78 ++ dktL_law_79
def dkwL_law_77 : List UInt8 := [167, 0, 4, 9, 148, 153, 0, 5, 3, 172, 167, 1, 23, 43, 42, 21, 4, 4, 96, 46, 42, 21, 4, 5]
abbrev dktL_law_77 : List UInt8 := dkwL_law_77 ++ dktL_law_78
def dkwL_law_76 : List UInt8 := [182, 0, 109, 21, 5, 159, 0, 5, 3, 172, 21, 5, 154, 0, 22, 45, 3, 47, 21, 6, 153, 0, 7, 10]
abbrev dktL_law_76 : List UInt8 := dkwL_law_76 ++ dktL_law_77
def dkwL_law_75 : List UInt8 := [184, 0, 179, 54, 5, 44, 42, 21, 4, 4, 96, 46, 42, 21, 4, 5, 96, 46, 182, 0, 181, 54, 6, 44]
abbrev dktL_law_75 : List UInt8 := dkwL_law_75 ++ dktL_law_76
def dkwL_law_74 : List UInt8 := [153, 0, 5, 3, 172, 167, 1, 98, 43, 42, 21, 4, 4, 96, 46, 42, 21, 4, 5, 96, 46, 45]
abbrev dktL_law_74 : List UInt8 := dkwL_law_74 ++ dktL_law_75
def dkwL_law_73 : List UInt8 := [182, 0, 109, 21, 5, 159, 0, 5, 3, 172, 21, 5, 154, 0, 15, 45, 3, 47, 21, 6, 133, 148]
abbrev dktL_law_73 : List UInt8 := dkwL_law_73 ++ dktL_law_74
def dkwL_law_72 : List UInt8 := [42, 21, 4, 4, 96, 46, 42, 21, 4, 5, 96, 46, 42, 21, 4, 6, 96, 46, 182, 0, 178, 54, 6, 44]
abbrev dktL_law_72 : List UInt8 := dkwL_law_72 ++ dktL_law_73
def dkwL_law_71 : List UInt8 := [21, 4, 4, 96, 46, 42, 21, 4, 5, 96, 46, 42, 21, 4, 6, 96, 46, 45, 184, 0, 176, 54, 5, 44]
abbrev dktL_law_71 : List UInt8 := dkwL_law_71 ++ dktL_law_72
def dkwL_law_70 : List UInt8 := [172, 21, 5, 154, 0, 15, 45, 3, 47, 21, 6, 133, 148, 153, 0, 5, 3, 172, 167, 1, 178, 43, 42]
abbrev dktL_law_70 : List UInt8 := dkwL_law_70 ++ dktL_law_71
def dkwL_law_69 : List UInt8 := [54, 5, 44, 42, 21, 4, 4, 96, 46, 182, 0, 175, 54, 6, 44, 182, 0, 109, 21, 5, 159, 0, 5, 3]
abbrev dktL_law_69 : List UInt8 := dkwL_law_69 ++ dktL_law_70
def dkwL_law_68 : List UInt8 := [21, 6, 133, 148, 153, 0, 5, 3, 172, 167, 1, 234, 43, 42, 21, 4, 4, 96, 46, 45, 184, 0, 173]
abbrev dktL_law_68 : List UInt8 := dkwL_law_68 ++ dktL_law_69
def dkwL_law_67 : List UInt8 := [182, 0, 172, 54, 6, 44, 182, 0, 109, 21, 5, 159, 0, 5, 3, 172, 21, 5, 154, 0, 15, 45, 3, 47]
abbrev dktL_law_67 : List UInt8 := dkwL_law_67 ++ dktL_law_68
def dkwL_law_66 : List UInt8 := [21, 4, 5, 96, 46, 45, 184, 0, 170, 54, 5, 44, 42, 21, 4, 4, 96, 46, 42, 21, 4, 5, 96, 46]
abbrev dktL_law_66 : List UInt8 := dkwL_law_66 ++ dktL_law_67
def dkwL_law_65 : List UInt8 := [167, 2, 59, 43, 182, 0, 166, 44, 182, 0, 169, 159, 2, 48, 3, 172, 43, 42, 21, 4, 4, 96, 46, 42]
abbrev dktL_law_65 : List UInt8 := dkwL_law_65 ++ dktL_law_66
def dkwL_law_64 : List UInt8 := [159, 0, 5, 3, 172, 21, 5, 154, 0, 15, 45, 3, 47, 21, 6, 133, 148, 153, 0, 5, 3, 172]
abbrev dktL_law_64 : List UInt8 := dkwL_law_64 ++ dktL_law_65
def dkwL_law_63 : List UInt8 := [21, 4, 5, 96, 46, 42, 21, 4, 6, 96, 46, 182, 0, 165, 54, 6, 44, 182, 0, 109, 21, 5]
abbrev dktL_law_63 : List UInt8 := dkwL_law_63 ++ dktL_law_64
def dkwL_law_62 : List UInt8 := [5, 96, 46, 42, 21, 4, 6, 96, 46, 45, 184, 0, 163, 54, 5, 44, 42, 21, 4, 4, 96, 46, 42]
abbrev dktL_law_62 : List UInt8 := dkwL_law_62 ++ dktL_law_63
def dkwL_law_61 : List UInt8 := [3, 47, 21, 6, 133, 148, 153, 0, 5, 3, 172, 167, 2, 139, 43, 42, 21, 4, 4, 96, 46, 42, 21, 4]
abbrev dktL_law_61 : List UInt8 := dkwL_law_61 ++ dktL_law_62
def dkwL_law_60 : List UInt8 := [96, 46, 182, 0, 162, 54, 6, 44, 182, 0, 109, 21, 5, 159, 0, 5, 3, 172, 21, 5, 154, 0, 15, 45]
abbrev dktL_law_60 : List UInt8 := dkwL_law_60 ++ dktL_law_61
def dkwL_law_59 : List UInt8 := [46, 42, 21, 4, 5, 96, 46, 45, 184, 0, 159, 54, 5, 44, 42, 21, 4, 4, 96, 46, 42, 21, 4, 5]
abbrev dktL_law_59 : List UInt8 := dkwL_law_59 ++ dktL_law_60
def dkwL_law_58 : List UInt8 := [154, 0, 15, 45, 3, 47, 21, 6, 133, 148, 153, 0, 5, 3, 172, 167, 2, 207, 43, 42, 21, 4, 4, 96]
abbrev dktL_law_58 : List UInt8 := dkwL_law_58 ++ dktL_law_59
def dkwL_law_57 : List UInt8 := [21, 4, 4, 96, 46, 182, 0, 158, 54, 6, 44, 182, 0, 109, 21, 5, 159, 0, 5, 3, 172, 21, 5]
abbrev dktL_law_57 : List UInt8 := dkwL_law_57 ++ dktL_law_58
def dkwL_law_56 : List UInt8 := [153, 0, 5, 3, 172, 167, 3, 7, 43, 42, 21, 4, 4, 96, 46, 45, 184, 0, 155, 54, 5, 44, 42]
abbrev dktL_law_56 : List UInt8 := dkwL_law_56 ++ dktL_law_57
def dkwL_law_55 : List UInt8 := [182, 0, 109, 21, 5, 159, 0, 5, 3, 172, 21, 5, 154, 0, 15, 45, 3, 47, 21, 6, 133, 148]
abbrev dktL_law_55 : List UInt8 := dkwL_law_55 ++ dktL_law_56
def dkwL_law_54 : List UInt8 := [21, 4, 4, 96, 46, 42, 21, 4, 5, 96, 46, 42, 21, 4, 6, 96, 46, 182, 0, 154, 54, 6, 44]
abbrev dktL_law_54 : List UInt8 := dkwL_law_54 ++ dktL_law_55
def dkwL_law_53 : List UInt8 := [4, 96, 46, 42, 21, 4, 5, 96, 46, 42, 21, 4, 6, 96, 46, 45, 184, 0, 152, 54, 5, 44, 42]
abbrev dktL_law_53 : List UInt8 := dkwL_law_53 ++ dktL_law_54
def dkwL_law_52 : List UInt8 := [21, 5, 154, 0, 15, 45, 3, 47, 21, 6, 133, 148, 153, 0, 5, 3, 172, 167, 3, 87, 43, 42, 21, 4]
abbrev dktL_law_52 : List UInt8 := dkwL_law_52 ++ dktL_law_53
def dkwL_law_51 : List UInt8 := [96, 46, 42, 21, 4, 6, 96, 46, 182, 0, 151, 54, 6, 44, 182, 0, 109, 21, 5, 159, 0, 5, 3, 172]
abbrev dktL_law_51 : List UInt8 := dkwL_law_51 ++ dktL_law_52
def dkwL_law_50 : List UInt8 := [46, 42, 21, 4, 6, 96, 46, 45, 184, 0, 149, 54, 5, 44, 42, 21, 4, 4, 96, 46, 42, 21, 4, 5]
abbrev dktL_law_50 : List UInt8 := dkwL_law_50 ++ dktL_law_51
def dkwL_law_49 : List UInt8 := [21, 6, 133, 148, 153, 0, 5, 3, 172, 167, 3, 167, 43, 42, 21, 4, 4, 96, 46, 42, 21, 4, 5, 96]
abbrev dktL_law_49 : List UInt8 := dkwL_law_49 ++ dktL_law_50
def dkwL_law_48 : List UInt8 := [182, 0, 148, 54, 6, 44, 182, 0, 109, 21, 5, 159, 0, 5, 3, 172, 21, 5, 154, 0, 15, 45, 3, 47]
abbrev dktL_law_48 : List UInt8 := dkwL_law_48 ++ dktL_law_49
def dkwL_law_47 : List UInt8 := [184, 0, 146, 54, 5, 44, 42, 21, 4, 4, 96, 46, 42, 21, 4, 5, 96, 46, 42, 21, 4, 6, 96, 46]
abbrev dktL_law_47 : List UInt8 := dkwL_law_47 ++ dktL_law_48
def dkwL_law_46 : List UInt8 := [167, 3, 247, 43, 42, 21, 4, 4, 96, 46, 42, 21, 4, 5, 96, 46, 42, 21, 4, 6, 96, 46, 45]
abbrev dktL_law_46 : List UInt8 := dkwL_law_46 ++ dktL_law_47
def dkwL_law_45 : List UInt8 := [159, 0, 5, 3, 172, 21, 5, 154, 0, 15, 45, 3, 47, 21, 6, 133, 148, 153, 0, 5, 3, 172]
abbrev dktL_law_45 : List UInt8 := dkwL_law_45 ++ dktL_law_46
def dkwL_law_44 : List UInt8 := [42, 21, 4, 6, 96, 46, 42, 21, 4, 7, 96, 46, 182, 0, 145, 54, 6, 44, 182, 0, 109, 21, 5]
abbrev dktL_law_44 : List UInt8 := dkwL_law_44 ++ dktL_law_45
def dkwL_law_43 : List UInt8 := [21, 4, 7, 96, 46, 45, 184, 0, 143, 54, 5, 44, 42, 21, 4, 4, 96, 46, 42, 21, 4, 5, 96, 46]
abbrev dktL_law_43 : List UInt8 := dkwL_law_43 ++ dktL_law_44
def dkwL_law_42 : List UInt8 := [167, 4, 83, 43, 42, 21, 4, 4, 96, 46, 42, 21, 4, 5, 96, 46, 42, 21, 4, 6, 96, 46, 42]
abbrev dktL_law_42 : List UInt8 := dkwL_law_42 ++ dktL_law_43
def dkwL_law_41 : List UInt8 := [21, 5, 159, 0, 5, 3, 172, 21, 5, 154, 0, 15, 45, 3, 47, 21, 6, 133, 148, 153, 0, 5, 3, 172]
abbrev dktL_law_41 : List UInt8 := dkwL_law_41 ++ dktL_law_42
def dkwL_law_40 : List UInt8 := [96, 46, 42, 21, 4, 5, 96, 46, 42, 21, 4, 6, 96, 46, 182, 0, 142, 54, 6, 44, 182, 0, 109]
abbrev dktL_law_40 : List UInt8 := dkwL_law_40 ++ dktL_law_41
def dkwL_law_39 : List UInt8 := [46, 42, 21, 4, 5, 96, 46, 42, 21, 4, 6, 96, 46, 45, 184, 0, 140, 54, 5, 44, 42, 21, 4, 4]
abbrev dktL_law_39 : List UInt8 := dkwL_law_39 ++ dktL_law_40
def dkwL_law_38 : List UInt8 := [154, 0, 15, 45, 3, 47, 21, 6, 133, 148, 153, 0, 5, 3, 172, 167, 4, 163, 43, 42, 21, 4, 4, 96]
abbrev dktL_law_38 : List UInt8 := dkwL_law_38 ++ dktL_law_39
def dkwL_law_37 : List UInt8 := [42, 21, 4, 6, 96, 46, 182, 0, 139, 54, 6, 44, 182, 0, 109, 21, 5, 159, 0, 5, 3, 172, 21, 5]
abbrev dktL_law_37 : List UInt8 := dkwL_law_37 ++ dktL_law_38
def dkwL_law_36 : List UInt8 := [21, 4, 6, 96, 46, 45, 184, 0, 136, 54, 5, 44, 42, 21, 4, 4, 96, 46, 42, 21, 4, 5, 96, 46]
abbrev dktL_law_36 : List UInt8 := dkwL_law_36 ++ dktL_law_37
def dkwL_law_35 : List UInt8 := [148, 153, 0, 5, 3, 172, 167, 4, 243, 43, 42, 21, 4, 4, 96, 46, 42, 21, 4, 5, 96, 46, 42]
abbrev dktL_law_35 : List UInt8 := dkwL_law_35 ++ dktL_law_36
def dkwL_law_34 : List UInt8 := [54, 6, 44, 182, 0, 109, 21, 5, 159, 0, 5, 3, 172, 21, 5, 154, 0, 15, 45, 3, 47, 21, 6, 133]
abbrev dktL_law_34 : List UInt8 := dkwL_law_34 ++ dktL_law_35
def dkwL_law_33 : List UInt8 := [4, 96, 46, 42, 21, 4, 5, 96, 46, 42, 21, 4, 6, 96, 46, 42, 21, 4, 7, 96, 46, 182, 0, 135]
abbrev dktL_law_33 : List UInt8 := dkwL_law_33 ++ dktL_law_34
def dkwL_law_32 : List UInt8 := [96, 46, 42, 21, 4, 6, 96, 46, 42, 21, 4, 7, 96, 46, 45, 184, 0, 132, 54, 5, 44, 42, 21, 4]
abbrev dktL_law_32 : List UInt8 := dkwL_law_32 ++ dktL_law_33
def dkwL_law_31 : List UInt8 := [47, 21, 6, 133, 148, 153, 0, 5, 3, 172, 167, 5, 79, 43, 42, 21, 4, 4, 96, 46, 42, 21, 4, 5]
abbrev dktL_law_31 : List UInt8 := dkwL_law_31 ++ dktL_law_32
def dkwL_law_30 : List UInt8 := [46, 182, 0, 131, 54, 6, 44, 182, 0, 109, 21, 5, 159, 0, 5, 3, 172, 21, 5, 154, 0, 15, 45, 3]
abbrev dktL_law_30 : List UInt8 := dkwL_law_30 ++ dktL_law_31
def dkwL_law_29 : List UInt8 := [21, 4, 4, 96, 46, 42, 21, 4, 5, 96, 46, 153, 0, 7, 4, 167, 0, 4, 3, 42, 21, 4, 6, 96]
abbrev dktL_law_29 : List UInt8 := dkwL_law_29 ++ dktL_law_30
def dkwL_law_28 : List UInt8 := [46, 153, 0, 7, 4, 167, 0, 4, 3, 42, 21, 4, 6, 96, 46, 45, 184, 0, 129, 54, 5, 44, 42]
abbrev dktL_law_28 : List UInt8 := dkwL_law_28 ++ dktL_law_29
def dkwL_law_27 : List UInt8 := [21, 6, 133, 148, 153, 0, 5, 3, 172, 167, 5, 175, 43, 42, 21, 4, 4, 96, 46, 42, 21, 4, 5, 96]
abbrev dktL_law_27 : List UInt8 := dkwL_law_27 ++ dktL_law_28
def dkwL_law_26 : List UInt8 := [182, 0, 128, 54, 6, 44, 182, 0, 109, 21, 5, 159, 0, 5, 3, 172, 21, 5, 154, 0, 15, 45, 3, 47]
abbrev dktL_law_26 : List UInt8 := dkwL_law_26 ++ dktL_law_27
def dkwL_law_25 : List UInt8 := [4, 96, 46, 42, 21, 4, 5, 96, 46, 153, 0, 7, 4, 167, 0, 4, 3, 42, 21, 4, 6, 96, 46]
abbrev dktL_law_25 : List UInt8 := dkwL_law_25 ++ dktL_law_26
def dkwL_law_24 : List UInt8 := [153, 0, 7, 4, 167, 0, 4, 3, 42, 21, 4, 6, 96, 46, 45, 184, 0, 126, 54, 5, 44, 42, 21, 4]
abbrev dktL_law_24 : List UInt8 := dkwL_law_24 ++ dktL_law_25
def dkwL_law_23 : List UInt8 := [148, 153, 0, 5, 3, 172, 167, 6, 15, 43, 42, 21, 4, 4, 96, 46, 42, 21, 4, 5, 96, 46]
abbrev dktL_law_23 : List UInt8 := dkwL_law_23 ++ dktL_law_24
def dkwL_law_22 : List UInt8 := [54, 6, 44, 182, 0, 109, 21, 5, 159, 0, 5, 3, 172, 21, 5, 154, 0, 15, 45, 3, 47, 21, 6, 133]
abbrev dktL_law_22 : List UInt8 := dkwL_law_22 ++ dktL_law_23
def dkwL_law_21 : List UInt8 := [42, 21, 4, 5, 96, 46, 153, 0, 7, 4, 167, 0, 4, 3, 42, 21, 4, 6, 96, 46, 182, 0, 125]
abbrev dktL_law_21 : List UInt8 := dkwL_law_21 ++ dktL_law_22
def dkwL_law_20 : List UInt8 := [4, 167, 0, 4, 3, 42, 21, 4, 6, 96, 46, 45, 184, 0, 123, 54, 5, 44, 42, 21, 4, 4, 96, 46]
abbrev dktL_law_20 : List UInt8 := dkwL_law_20 ++ dktL_law_21
def dkwL_law_19 : List UInt8 := [153, 0, 5, 3, 172, 167, 6, 111, 43, 42, 21, 4, 4, 96, 46, 42, 21, 4, 5, 96, 46, 153, 0, 7]
abbrev dktL_law_19 : List UInt8 := dkwL_law_19 ++ dktL_law_20
def dkwL_law_18 : List UInt8 := [44, 182, 0, 109, 21, 5, 159, 0, 5, 3, 172, 21, 5, 154, 0, 15, 45, 3, 47, 21, 6, 133, 148]
abbrev dktL_law_18 : List UInt8 := dkwL_law_18 ++ dktL_law_19
def dkwL_law_17 : List UInt8 := [21, 4, 4, 96, 46, 42, 21, 4, 5, 96, 46, 153, 0, 7, 4, 167, 0, 4, 3, 182, 0, 122, 54, 6]
abbrev dktL_law_17 : List UInt8 := dkwL_law_17 ++ dktL_law_18
def dkwL_law_16 : List UInt8 := [46, 42, 21, 4, 5, 96, 46, 153, 0, 7, 4, 167, 0, 4, 3, 45, 184, 0, 119, 54, 5, 44, 42]
abbrev dktL_law_16 : List UInt8 := dkwL_law_16 ++ dktL_law_17
def dkwL_law_15 : List UInt8 := [154, 0, 15, 45, 3, 47, 21, 6, 133, 148, 153, 0, 5, 3, 172, 167, 6, 195, 43, 42, 21, 4, 4, 96]
abbrev dktL_law_15 : List UInt8 := dkwL_law_15 ++ dktL_law_16
def dkwL_law_14 : List UInt8 := [21, 4, 6, 96, 46, 182, 0, 118, 54, 6, 44, 182, 0, 109, 21, 5, 159, 0, 5, 3, 172, 21, 5]
abbrev dktL_law_14 : List UInt8 := dkwL_law_14 ++ dktL_law_15
def dkwL_law_13 : List UInt8 := [54, 5, 44, 42, 21, 4, 4, 96, 46, 42, 21, 4, 5, 96, 46, 153, 0, 7, 4, 167, 0, 4, 3, 42]
abbrev dktL_law_13 : List UInt8 := dkwL_law_13 ++ dktL_law_14
def dkwL_law_12 : List UInt8 := [21, 4, 5, 96, 46, 153, 0, 7, 4, 167, 0, 4, 3, 42, 21, 4, 6, 96, 46, 45, 184, 0, 116]
abbrev dktL_law_12 : List UInt8 := dkwL_law_12 ++ dktL_law_13
def dkwL_law_11 : List UInt8 := [45, 3, 47, 21, 6, 133, 148, 153, 0, 5, 3, 172, 167, 7, 35, 43, 42, 21, 4, 4, 96, 46, 42]
abbrev dktL_law_11 : List UInt8 := dkwL_law_11 ++ dktL_law_12
def dkwL_law_10 : List UInt8 := [7, 96, 46, 182, 0, 115, 54, 6, 44, 182, 0, 109, 21, 5, 159, 0, 5, 3, 172, 21, 5, 154, 0, 15]
abbrev dktL_law_10 : List UInt8 := dkwL_law_10 ++ dktL_law_11
def dkwL_law_9 : List UInt8 := [46, 42, 21, 4, 5, 96, 46, 153, 0, 7, 4, 167, 0, 4, 3, 42, 21, 4, 6, 96, 46, 42, 21, 4]
abbrev dktL_law_9 : List UInt8 := dkwL_law_9 ++ dktL_law_10
def dkwL_law_8 : List UInt8 := [42, 21, 4, 6, 96, 46, 42, 21, 4, 7, 96, 46, 45, 184, 0, 112, 54, 5, 44, 42, 21, 4, 4, 96]
abbrev dktL_law_8 : List UInt8 := dkwL_law_8 ++ dktL_law_9
def dkwL_law_7 : List UInt8 := [167, 7, 143, 43, 42, 21, 4, 4, 96, 46, 42, 21, 4, 5, 96, 46, 153, 0, 7, 4, 167, 0, 4, 3]
abbrev dktL_law_7 : List UInt8 := dkwL_law_7 ++ dktL_law_8
def dkwL_law_6 : List UInt8 := [21, 5, 159, 0, 5, 3, 172, 21, 5, 154, 0, 15, 45, 3, 47, 21, 6, 133, 148, 153, 0, 5, 3, 172]
abbrev dktL_law_6 : List UInt8 := dkwL_law_6 ++ dktL_law_7
def dkwL_law_5 : List UInt8 := [153, 0, 7, 4, 167, 0, 4, 3, 42, 21, 4, 6, 96, 46, 182, 0, 108, 54, 6, 44, 182, 0, 109]
abbrev dktL_law_5 : List UInt8 := dkwL_law_5 ++ dktL_law_6
def dkwL_law_4 : List UInt8 := [6, 96, 46, 45, 184, 0, 103, 54, 5, 44, 42, 21, 4, 4, 96, 46, 42, 21, 4, 5, 96, 46]
abbrev dktL_law_4 : List UInt8 := dkwL_law_4 ++ dktL_law_5
def dkwL_law_3 : List UInt8 := [43, 42, 21, 4, 4, 96, 46, 42, 21, 4, 5, 96, 46, 153, 0, 7, 4, 167, 0, 4, 3, 42, 21, 4]
abbrev dktL_law_3 : List UInt8 := dkwL_law_3 ++ dktL_law_4
def dkwL_law_2 : List UInt8 := [170, 0, 0, 8, 109, 0, 0, 0, 0, 0, 0, 0, 28, 0, 0, 0, 129, 0, 0, 0, 225, 0, 0, 1, 77, 0, 0, 1, 173, 0, 0, 2, 1, 0, 0, 2, 97, 0, 0, 2, 193, 0, 0, 3, 33, 0, 0, 3, 125, 0, 0, 3, 205, 0, 0, 4, 29, 0, 0, 4, 121, 0, 0, 4, 201, 0, 0, 5, 25, 0, 0, 5, 105, 0, 0, 5, 161, 0, 0, 5, 229, 0, 0, 6, 53, 0, 0, 6, 66, 0, 0, 6, 134, 0, 0, 6, 190, 0, 0, 7, 14, 0, 0, 7, 89, 0, 0, 7, 157, 0, 0, 7, 213, 0, 0, 7, 226, 0, 0, 8, 26, 0, 0, 8, 51, 0, 0, 8, 95]
abbrev dktL_law_2 : List UInt8 := dkwL_law_2 ++ dktL_law_3
def dkwL_law_1 : List UInt8 := [21, 4, 42, 190, 8, 100, 163, 8, 125, 42, 21, 4, 46, 16, 31, 126]
abbrev dktL_law_1 : List UInt8 := dkwL_law_1 ++ dktL_law_2
def dkwL_law_0 : List UInt8 := [187, 0, 8, 89, 183, 0, 99, 76, 187, 0, 100, 89, 183, 0, 102, 77, 4, 188, 11, 78, 3, 54, 4]
abbrev dktL_law_0 : List UInt8 := dkwL_law_0 ++ dktL_law_1
theorem dksL_law_0 : cL_law.data.toList.drop 0 = dktL_law_0 := by decide +kernel
theorem dksL_law_1 : cL_law.data.toList.drop 23 = dktL_law_1 := dk_seg dksL_law_0 23 rfl rfl
theorem dksL_law_2 : cL_law.data.toList.drop 39 = dktL_law_2 := dk_seg dksL_law_1 16 rfl rfl
theorem dksL_law_3 : cL_law.data.toList.drop 168 = dktL_law_3 := dk_seg dksL_law_2 129 rfl rfl
theorem dksL_law_4 : cL_law.data.toList.drop 192 = dktL_law_4 := dk_seg dksL_law_3 24 rfl rfl
theorem dksL_law_5 : cL_law.data.toList.drop 214 = dktL_law_5 := dk_seg dksL_law_4 22 rfl rfl
theorem dksL_law_6 : cL_law.data.toList.drop 237 = dktL_law_6 := dk_seg dksL_law_5 23 rfl rfl
theorem dksL_law_7 : cL_law.data.toList.drop 261 = dktL_law_7 := dk_seg dksL_law_6 24 rfl rfl
theorem dksL_law_8 : cL_law.data.toList.drop 285 = dktL_law_8 := dk_seg dksL_law_7 24 rfl rfl
theorem dksL_law_9 : cL_law.data.toList.drop 309 = dktL_law_9 := dk_seg dksL_law_8 24 rfl rfl
theorem dksL_law_10 : cL_law.data.toList.drop 333 = dktL_law_10 := dk_seg dksL_law_9 24 rfl rfl
theorem dksL_law_11 : cL_law.data.toList.drop 357 = dktL_law_11 := dk_seg dksL_law_10 24 rfl rfl
theorem dksL_law_12 : cL_law.data.toList.drop 380 = dktL_law_12 := dk_seg dksL_law_11 23 rfl rfl
theorem dksL_law_13 : cL_law.data.toList.drop 403 = dktL_law_13 := dk_seg dksL_law_12 23 rfl rfl
theorem dksL_law_14 : cL_law.data.toList.drop 427 = dktL_law_14 := dk_seg dksL_law_13 24 rfl rfl
theorem dksL_law_15 : cL_law.data.toList.drop 450 = dktL_law_15 := dk_seg dksL_law_14 23 rfl rfl
theorem dksL_law_16 : cL_law.data.toList.drop 474 = dktL_law_16 := dk_seg dksL_law_15 24 rfl rfl
theorem dksL_law_17 : cL_law.data.toList.drop 497 = dktL_law_17 := dk_seg dksL_law_16 23 rfl rfl
theorem dksL_law_18 : cL_law.data.toList.drop 521 = dktL_law_18 := dk_seg dksL_law_17 24 rfl rfl
theorem dksL_law_19 : cL_law.data.toList.drop 544 = dktL_law_19 := dk_seg dksL_law_18 23 rfl rfl
theorem dksL_law_20 : cL_law.data.toList.drop 568 = dktL_law_20 := dk_seg dksL_law_19 24 rfl rfl
theorem dksL_law_21 : cL_law.data.toList.drop 592 = dktL_law_21 := dk_seg dksL_law_20 24 rfl rfl
theorem dksL_law_22 : cL_law.data.toList.drop 615 = dktL_law_22 := dk_seg dksL_law_21 23 rfl rfl
theorem dksL_law_23 : cL_law.data.toList.drop 639 = dktL_law_23 := dk_seg dksL_law_22 24 rfl rfl
theorem dksL_law_24 : cL_law.data.toList.drop 661 = dktL_law_24 := dk_seg dksL_law_23 22 rfl rfl
theorem dksL_law_25 : cL_law.data.toList.drop 685 = dktL_law_25 := dk_seg dksL_law_24 24 rfl rfl
theorem dksL_law_26 : cL_law.data.toList.drop 708 = dktL_law_26 := dk_seg dksL_law_25 23 rfl rfl
theorem dksL_law_27 : cL_law.data.toList.drop 732 = dktL_law_27 := dk_seg dksL_law_26 24 rfl rfl
theorem dksL_law_28 : cL_law.data.toList.drop 756 = dktL_law_28 := dk_seg dksL_law_27 24 rfl rfl
theorem dksL_law_29 : cL_law.data.toList.drop 779 = dktL_law_29 := dk_seg dksL_law_28 23 rfl rfl
theorem dksL_law_30 : cL_law.data.toList.drop 803 = dktL_law_30 := dk_seg dksL_law_29 24 rfl rfl
theorem dksL_law_31 : cL_law.data.toList.drop 827 = dktL_law_31 := dk_seg dksL_law_30 24 rfl rfl
theorem dksL_law_32 : cL_law.data.toList.drop 851 = dktL_law_32 := dk_seg dksL_law_31 24 rfl rfl
theorem dksL_law_33 : cL_law.data.toList.drop 875 = dktL_law_33 := dk_seg dksL_law_32 24 rfl rfl
theorem dksL_law_34 : cL_law.data.toList.drop 899 = dktL_law_34 := dk_seg dksL_law_33 24 rfl rfl
theorem dksL_law_35 : cL_law.data.toList.drop 923 = dktL_law_35 := dk_seg dksL_law_34 24 rfl rfl
theorem dksL_law_36 : cL_law.data.toList.drop 946 = dktL_law_36 := dk_seg dksL_law_35 23 rfl rfl
theorem dksL_law_37 : cL_law.data.toList.drop 970 = dktL_law_37 := dk_seg dksL_law_36 24 rfl rfl
theorem dksL_law_38 : cL_law.data.toList.drop 994 = dktL_law_38 := dk_seg dksL_law_37 24 rfl rfl
theorem dksL_law_39 : cL_law.data.toList.drop 1018 = dktL_law_39 := dk_seg dksL_law_38 24 rfl rfl
theorem dksL_law_40 : cL_law.data.toList.drop 1042 = dktL_law_40 := dk_seg dksL_law_39 24 rfl rfl
theorem dksL_law_41 : cL_law.data.toList.drop 1065 = dktL_law_41 := dk_seg dksL_law_40 23 rfl rfl
theorem dksL_law_42 : cL_law.data.toList.drop 1089 = dktL_law_42 := dk_seg dksL_law_41 24 rfl rfl
theorem dksL_law_43 : cL_law.data.toList.drop 1112 = dktL_law_43 := dk_seg dksL_law_42 23 rfl rfl
theorem dksL_law_44 : cL_law.data.toList.drop 1136 = dktL_law_44 := dk_seg dksL_law_43 24 rfl rfl
theorem dksL_law_45 : cL_law.data.toList.drop 1159 = dktL_law_45 := dk_seg dksL_law_44 23 rfl rfl
theorem dksL_law_46 : cL_law.data.toList.drop 1181 = dktL_law_46 := dk_seg dksL_law_45 22 rfl rfl
theorem dksL_law_47 : cL_law.data.toList.drop 1204 = dktL_law_47 := dk_seg dksL_law_46 23 rfl rfl
theorem dksL_law_48 : cL_law.data.toList.drop 1228 = dktL_law_48 := dk_seg dksL_law_47 24 rfl rfl
theorem dksL_law_49 : cL_law.data.toList.drop 1252 = dktL_law_49 := dk_seg dksL_law_48 24 rfl rfl
theorem dksL_law_50 : cL_law.data.toList.drop 1276 = dktL_law_50 := dk_seg dksL_law_49 24 rfl rfl
theorem dksL_law_51 : cL_law.data.toList.drop 1300 = dktL_law_51 := dk_seg dksL_law_50 24 rfl rfl
theorem dksL_law_52 : cL_law.data.toList.drop 1324 = dktL_law_52 := dk_seg dksL_law_51 24 rfl rfl
theorem dksL_law_53 : cL_law.data.toList.drop 1348 = dktL_law_53 := dk_seg dksL_law_52 24 rfl rfl
theorem dksL_law_54 : cL_law.data.toList.drop 1371 = dktL_law_54 := dk_seg dksL_law_53 23 rfl rfl
theorem dksL_law_55 : cL_law.data.toList.drop 1394 = dktL_law_55 := dk_seg dksL_law_54 23 rfl rfl
theorem dksL_law_56 : cL_law.data.toList.drop 1416 = dktL_law_56 := dk_seg dksL_law_55 22 rfl rfl
theorem dksL_law_57 : cL_law.data.toList.drop 1439 = dktL_law_57 := dk_seg dksL_law_56 23 rfl rfl
theorem dksL_law_58 : cL_law.data.toList.drop 1462 = dktL_law_58 := dk_seg dksL_law_57 23 rfl rfl
theorem dksL_law_59 : cL_law.data.toList.drop 1486 = dktL_law_59 := dk_seg dksL_law_58 24 rfl rfl
theorem dksL_law_60 : cL_law.data.toList.drop 1510 = dktL_law_60 := dk_seg dksL_law_59 24 rfl rfl
theorem dksL_law_61 : cL_law.data.toList.drop 1534 = dktL_law_61 := dk_seg dksL_law_60 24 rfl rfl
theorem dksL_law_62 : cL_law.data.toList.drop 1558 = dktL_law_62 := dk_seg dksL_law_61 24 rfl rfl
theorem dksL_law_63 : cL_law.data.toList.drop 1581 = dktL_law_63 := dk_seg dksL_law_62 23 rfl rfl
theorem dksL_law_64 : cL_law.data.toList.drop 1603 = dktL_law_64 := dk_seg dksL_law_63 22 rfl rfl
theorem dksL_law_65 : cL_law.data.toList.drop 1625 = dktL_law_65 := dk_seg dksL_law_64 22 rfl rfl
theorem dksL_law_66 : cL_law.data.toList.drop 1649 = dktL_law_66 := dk_seg dksL_law_65 24 rfl rfl
theorem dksL_law_67 : cL_law.data.toList.drop 1673 = dktL_law_67 := dk_seg dksL_law_66 24 rfl rfl
theorem dksL_law_68 : cL_law.data.toList.drop 1697 = dktL_law_68 := dk_seg dksL_law_67 24 rfl rfl
theorem dksL_law_69 : cL_law.data.toList.drop 1720 = dktL_law_69 := dk_seg dksL_law_68 23 rfl rfl
theorem dksL_law_70 : cL_law.data.toList.drop 1744 = dktL_law_70 := dk_seg dksL_law_69 24 rfl rfl
theorem dksL_law_71 : cL_law.data.toList.drop 1767 = dktL_law_71 := dk_seg dksL_law_70 23 rfl rfl
theorem dksL_law_72 : cL_law.data.toList.drop 1791 = dktL_law_72 := dk_seg dksL_law_71 24 rfl rfl
theorem dksL_law_73 : cL_law.data.toList.drop 1815 = dktL_law_73 := dk_seg dksL_law_72 24 rfl rfl
theorem dksL_law_74 : cL_law.data.toList.drop 1837 = dktL_law_74 := dk_seg dksL_law_73 22 rfl rfl
theorem dksL_law_75 : cL_law.data.toList.drop 1859 = dktL_law_75 := dk_seg dksL_law_74 22 rfl rfl
theorem dksL_law_76 : cL_law.data.toList.drop 1883 = dktL_law_76 := dk_seg dksL_law_75 24 rfl rfl
theorem dksL_law_77 : cL_law.data.toList.drop 1907 = dktL_law_77 := dk_seg dksL_law_76 24 rfl rfl
theorem dksL_law_78 : cL_law.data.toList.drop 1931 = dktL_law_78 := dk_seg dksL_law_77 24 rfl rfl
theorem dksL_law_79 : cL_law.data.toList.drop 1955 = dktL_law_79 := dk_seg dksL_law_78 24 rfl rfl
theorem dksL_law_80 : cL_law.data.toList.drop 1979 = dktL_law_80 := dk_seg dksL_law_79 24 rfl rfl
theorem dksL_law_81 : cL_law.data.toList.drop 2003 = dktL_law_81 := dk_seg dksL_law_80 24 rfl rfl
theorem dksL_law_82 : cL_law.data.toList.drop 2026 = dktL_law_82 := dk_seg dksL_law_81 23 rfl rfl
theorem dksL_law_83 : cL_law.data.toList.drop 2049 = dktL_law_83 := dk_seg dksL_law_82 23 rfl rfl
theorem dksL_law_84 : cL_law.data.toList.drop 2072 = dktL_law_84 := dk_seg dksL_law_83 23 rfl rfl
theorem dksL_law_85 : cL_law.data.toList.drop 2095 = dktL_law_85 := dk_seg dksL_law_84 23 rfl rfl
theorem dksL_law_86 : cL_law.data.toList.drop 2119 = dktL_law_86 := dk_seg dksL_law_85 24 rfl rfl
theorem dksL_law_87 : cL_law.data.toList.drop 2143 = dktL_law_87 := dk_seg dksL_law_86 24 rfl rfl
theorem dksL_law_88 : cL_law.data.toList.drop 2167 = dktL_law_88 := dk_seg dksL_law_87 24 rfl rfl
theorem dksL_law_89 : cL_law.data.toList.drop 2191 = dktL_law_89 := dk_seg dksL_law_88 24 rfl rfl
theorem dL_law_0 : decode cL_law 0 = .ok (.new 8, 3) := dk_187 0 8 (dk_at dksL_law_0 0 rfl rfl)
theorem dL_law_3 : decode cL_law 3 = .ok (.dup, 1) := dk_89 (dk_at dksL_law_0 3 rfl rfl)
theorem dL_law_4 : decode cL_law 4 = .ok (.invokespecial 99, 3) := dk_183 0 99 (dk_at dksL_law_0 4 rfl rfl)
theorem dL_law_7 : decode cL_law 7 = .ok (.astore_n 1, 1) := dk_76 (dk_at dksL_law_0 7 rfl rfl)
theorem dL_law_8 : decode cL_law 8 = .ok (.new 100, 3) := dk_187 0 100 (dk_at dksL_law_0 8 rfl rfl)
theorem dL_law_11 : decode cL_law 11 = .ok (.dup, 1) := dk_89 (dk_at dksL_law_0 11 rfl rfl)
theorem dL_law_12 : decode cL_law 12 = .ok (.invokespecial 102, 3) := dk_183 0 102 (dk_at dksL_law_0 12 rfl rfl)
theorem dL_law_15 : decode cL_law 15 = .ok (.astore_n 2, 1) := dk_77 (dk_at dksL_law_0 15 rfl rfl)
theorem dL_law_16 : decode cL_law 16 = .ok (.iconst 1, 1) := dk_4 (dk_at dksL_law_0 16 rfl rfl)
theorem dL_law_17 : decode cL_law 17 = .ok (.newarray .long, 2) := dk_188_11 (dk_at dksL_law_0 17 rfl rfl)
theorem dL_law_19 : decode cL_law 19 = .ok (.astore_n 3, 1) := dk_78 (dk_at dksL_law_0 19 rfl rfl)
theorem dL_law_20 : decode cL_law 20 = .ok (.iconst 0, 1) := dk_3 (dk_at dksL_law_0 20 rfl rfl)
theorem dL_law_21 : decode cL_law 21 = .ok (.istore 4, 2) := dk_54 4 (dk_at dksL_law_0 21 rfl rfl)
theorem dL_law_23 : decode cL_law 23 = .ok (.iload 4, 2) := dk_21 4 (dk_at dksL_law_1 0 rfl rfl)
theorem dL_law_25 : decode cL_law 25 = .ok (.aload_n 0, 1) := dk_42 (dk_at dksL_law_1 2 rfl rfl)
theorem dL_law_26 : decode cL_law 26 = .ok (.arraylength, 1) := dk_190 (dk_at dksL_law_1 3 rfl rfl)
theorem dL_law_27 : decode cL_law 27 = .ok (.iconst 5, 1) := dk_8 (dk_at dksL_law_1 4 rfl rfl)
theorem dL_law_28 : decode cL_law 28 = .ok (.isub, 1) := dk_100 (dk_at dksL_law_1 5 rfl rfl)
theorem dL_law_29 : decode cL_law 29 = .ok (.if_icmp .gt 2173, 3) := dk_163 8 125 (dk_at dksL_law_1 6 rfl rfl)
theorem dL_law_32 : decode cL_law 32 = .ok (.aload_n 0, 1) := dk_42 (dk_at dksL_law_1 9 rfl rfl)
theorem dL_law_33 : decode cL_law 33 = .ok (.iload 4, 2) := dk_21 4 (dk_at dksL_law_1 10 rfl rfl)
theorem dL_law_35 : decode cL_law 35 = .ok (.iaload, 1) := dk_46 (dk_at dksL_law_1 12 rfl rfl)
theorem dL_law_36 : decode cL_law 36 = .ok (.bipush 31, 2) := dk_16 31 (dk_at dksL_law_1 13 rfl rfl)
theorem dL_law_38 : decode cL_law 38 = .ok (.iand, 1) := dk_126 (dk_at dksL_law_1 15 rfl rfl)
theorem dL_law_39 : decode cL_law 39 = .ok (.tableswitch 2157 0 28 #[129, 225, 333, 429, 513, 609, 705, 801, 893, 973, 1053, 1145, 1225, 1305, 1385, 1441, 1509, 1589, 1602, 1670, 1726, 1806, 1881, 1949, 2005, 2018, 2074, 2099, 2143], 129) := by decide +kernel
theorem dL_law_168 : decode cL_law 168 = .ok (.aload_n 1, 1) := dk_43 (dk_at dksL_law_3 0 rfl rfl)
theorem dL_law_169 : decode cL_law 169 = .ok (.aload_n 0, 1) := dk_42 (dk_at dksL_law_3 1 rfl rfl)
theorem dL_law_170 : decode cL_law 170 = .ok (.iload 4, 2) := dk_21 4 (dk_at dksL_law_3 2 rfl rfl)
theorem dL_law_172 : decode cL_law 172 = .ok (.iconst 1, 1) := dk_4 (dk_at dksL_law_3 4 rfl rfl)
theorem dL_law_173 : decode cL_law 173 = .ok (.iadd, 1) := dk_96 (dk_at dksL_law_3 5 rfl rfl)
theorem dL_law_174 : decode cL_law 174 = .ok (.iaload, 1) := dk_46 (dk_at dksL_law_3 6 rfl rfl)
theorem dL_law_175 : decode cL_law 175 = .ok (.aload_n 0, 1) := dk_42 (dk_at dksL_law_3 7 rfl rfl)
theorem dL_law_176 : decode cL_law 176 = .ok (.iload 4, 2) := dk_21 4 (dk_at dksL_law_3 8 rfl rfl)
theorem dL_law_178 : decode cL_law 178 = .ok (.iconst 2, 1) := dk_5 (dk_at dksL_law_3 10 rfl rfl)
theorem dL_law_179 : decode cL_law 179 = .ok (.iadd, 1) := dk_96 (dk_at dksL_law_3 11 rfl rfl)
theorem dL_law_180 : decode cL_law 180 = .ok (.iaload, 1) := dk_46 (dk_at dksL_law_3 12 rfl rfl)
theorem dL_law_181 : decode cL_law 181 = .ok (.ifCond .eq 7, 3) := dk_153 0 7 (dk_at dksL_law_3 13 rfl rfl)
theorem dL_law_184 : decode cL_law 184 = .ok (.iconst 1, 1) := dk_4 (dk_at dksL_law_3 16 rfl rfl)
theorem dL_law_185 : decode cL_law 185 = .ok (.goto 4, 3) := dk_167 0 4 (dk_at dksL_law_3 17 rfl rfl)
theorem dL_law_188 : decode cL_law 188 = .ok (.iconst 0, 1) := dk_3 (dk_at dksL_law_3 20 rfl rfl)
theorem dL_law_189 : decode cL_law 189 = .ok (.aload_n 0, 1) := dk_42 (dk_at dksL_law_3 21 rfl rfl)
theorem dL_law_190 : decode cL_law 190 = .ok (.iload 4, 2) := dk_21 4 (dk_at dksL_law_3 22 rfl rfl)
theorem dL_law_192 : decode cL_law 192 = .ok (.iconst 3, 1) := dk_6 (dk_at dksL_law_4 0 rfl rfl)
theorem dL_law_193 : decode cL_law 193 = .ok (.iadd, 1) := dk_96 (dk_at dksL_law_4 1 rfl rfl)
theorem dL_law_194 : decode cL_law 194 = .ok (.iaload, 1) := dk_46 (dk_at dksL_law_4 2 rfl rfl)
theorem dL_law_195 : decode cL_law 195 = .ok (.aload_n 3, 1) := dk_45 (dk_at dksL_law_4 3 rfl rfl)
theorem dL_law_196 : decode cL_law 196 = .ok (.invokestatic 103, 3) := dk_184 0 103 (dk_at dksL_law_4 4 rfl rfl)
theorem dL_law_199 : decode cL_law 199 = .ok (.istore 5, 2) := dk_54 5 (dk_at dksL_law_4 7 rfl rfl)
theorem dL_law_201 : decode cL_law 201 = .ok (.aload_n 2, 1) := dk_44 (dk_at dksL_law_4 9 rfl rfl)
theorem dL_law_202 : decode cL_law 202 = .ok (.aload_n 0, 1) := dk_42 (dk_at dksL_law_4 10 rfl rfl)
theorem dL_law_203 : decode cL_law 203 = .ok (.iload 4, 2) := dk_21 4 (dk_at dksL_law_4 11 rfl rfl)
theorem dL_law_205 : decode cL_law 205 = .ok (.iconst 1, 1) := dk_4 (dk_at dksL_law_4 13 rfl rfl)
theorem dL_law_206 : decode cL_law 206 = .ok (.iadd, 1) := dk_96 (dk_at dksL_law_4 14 rfl rfl)
theorem dL_law_207 : decode cL_law 207 = .ok (.iaload, 1) := dk_46 (dk_at dksL_law_4 15 rfl rfl)
theorem dL_law_208 : decode cL_law 208 = .ok (.aload_n 0, 1) := dk_42 (dk_at dksL_law_4 16 rfl rfl)
theorem dL_law_209 : decode cL_law 209 = .ok (.iload 4, 2) := dk_21 4 (dk_at dksL_law_4 17 rfl rfl)
theorem dL_law_211 : decode cL_law 211 = .ok (.iconst 2, 1) := dk_5 (dk_at dksL_law_4 19 rfl rfl)
theorem dL_law_212 : decode cL_law 212 = .ok (.iadd, 1) := dk_96 (dk_at dksL_law_4 20 rfl rfl)
theorem dL_law_213 : decode cL_law 213 = .ok (.iaload, 1) := dk_46 (dk_at dksL_law_4 21 rfl rfl)
theorem dL_law_214 : decode cL_law 214 = .ok (.ifCond .eq 7, 3) := dk_153 0 7 (dk_at dksL_law_5 0 rfl rfl)
theorem dL_law_217 : decode cL_law 217 = .ok (.iconst 1, 1) := dk_4 (dk_at dksL_law_5 3 rfl rfl)
theorem dL_law_218 : decode cL_law 218 = .ok (.goto 4, 3) := dk_167 0 4 (dk_at dksL_law_5 4 rfl rfl)
theorem dL_law_221 : decode cL_law 221 = .ok (.iconst 0, 1) := dk_3 (dk_at dksL_law_5 7 rfl rfl)
theorem dL_law_222 : decode cL_law 222 = .ok (.aload_n 0, 1) := dk_42 (dk_at dksL_law_5 8 rfl rfl)
theorem dL_law_223 : decode cL_law 223 = .ok (.iload 4, 2) := dk_21 4 (dk_at dksL_law_5 9 rfl rfl)
theorem dL_law_225 : decode cL_law 225 = .ok (.iconst 3, 1) := dk_6 (dk_at dksL_law_5 11 rfl rfl)
theorem dL_law_226 : decode cL_law 226 = .ok (.iadd, 1) := dk_96 (dk_at dksL_law_5 12 rfl rfl)
theorem dL_law_227 : decode cL_law 227 = .ok (.iaload, 1) := dk_46 (dk_at dksL_law_5 13 rfl rfl)
theorem dL_law_228 : decode cL_law 228 = .ok (.invokevirtual 108, 3) := dk_182 0 108 (dk_at dksL_law_5 14 rfl rfl)
theorem dL_law_231 : decode cL_law 231 = .ok (.istore 6, 2) := dk_54 6 (dk_at dksL_law_5 17 rfl rfl)
theorem dL_law_233 : decode cL_law 233 = .ok (.aload_n 2, 1) := dk_44 (dk_at dksL_law_5 19 rfl rfl)
theorem dL_law_234 : decode cL_law 234 = .ok (.invokevirtual 109, 3) := dk_182 0 109 (dk_at dksL_law_5 20 rfl rfl)
theorem dL_law_237 : decode cL_law 237 = .ok (.iload 5, 2) := dk_21 5 (dk_at dksL_law_6 0 rfl rfl)
theorem dL_law_239 : decode cL_law 239 = .ok (.if_icmp .eq 5, 3) := dk_159 0 5 (dk_at dksL_law_6 2 rfl rfl)
theorem dL_law_242 : decode cL_law 242 = .ok (.iconst 0, 1) := dk_3 (dk_at dksL_law_6 5 rfl rfl)
theorem dL_law_243 : decode cL_law 243 = .ok (.ireturn, 1) := dk_172 (dk_at dksL_law_6 6 rfl rfl)
theorem dL_law_244 : decode cL_law 244 = .ok (.iload 5, 2) := dk_21 5 (dk_at dksL_law_6 7 rfl rfl)
theorem dL_law_246 : decode cL_law 246 = .ok (.ifCond .ne 15, 3) := dk_154 0 15 (dk_at dksL_law_6 9 rfl rfl)
theorem dL_law_249 : decode cL_law 249 = .ok (.aload_n 3, 1) := dk_45 (dk_at dksL_law_6 12 rfl rfl)
theorem dL_law_250 : decode cL_law 250 = .ok (.iconst 0, 1) := dk_3 (dk_at dksL_law_6 13 rfl rfl)
theorem dL_law_251 : decode cL_law 251 = .ok (.laload, 1) := dk_47 (dk_at dksL_law_6 14 rfl rfl)
theorem dL_law_252 : decode cL_law 252 = .ok (.iload 6, 2) := dk_21 6 (dk_at dksL_law_6 15 rfl rfl)
theorem dL_law_254 : decode cL_law 254 = .ok (.i2l, 1) := dk_133 (dk_at dksL_law_6 17 rfl rfl)
theorem dL_law_255 : decode cL_law 255 = .ok (.lcmp, 1) := dk_148 (dk_at dksL_law_6 18 rfl rfl)
theorem dL_law_256 : decode cL_law 256 = .ok (.ifCond .eq 5, 3) := dk_153 0 5 (dk_at dksL_law_6 19 rfl rfl)
theorem dL_law_259 : decode cL_law 259 = .ok (.iconst 0, 1) := dk_3 (dk_at dksL_law_6 22 rfl rfl)
theorem dL_law_260 : decode cL_law 260 = .ok (.ireturn, 1) := dk_172 (dk_at dksL_law_6 23 rfl rfl)
theorem dL_law_261 : decode cL_law 261 = .ok (.goto 1935, 3) := dk_167 7 143 (dk_at dksL_law_7 0 rfl rfl)
theorem dL_law_264 : decode cL_law 264 = .ok (.aload_n 1, 1) := dk_43 (dk_at dksL_law_7 3 rfl rfl)
theorem dL_law_265 : decode cL_law 265 = .ok (.aload_n 0, 1) := dk_42 (dk_at dksL_law_7 4 rfl rfl)
theorem dL_law_266 : decode cL_law 266 = .ok (.iload 4, 2) := dk_21 4 (dk_at dksL_law_7 5 rfl rfl)
theorem dL_law_268 : decode cL_law 268 = .ok (.iconst 1, 1) := dk_4 (dk_at dksL_law_7 7 rfl rfl)
theorem dL_law_269 : decode cL_law 269 = .ok (.iadd, 1) := dk_96 (dk_at dksL_law_7 8 rfl rfl)
theorem dL_law_270 : decode cL_law 270 = .ok (.iaload, 1) := dk_46 (dk_at dksL_law_7 9 rfl rfl)
theorem dL_law_271 : decode cL_law 271 = .ok (.aload_n 0, 1) := dk_42 (dk_at dksL_law_7 10 rfl rfl)
theorem dL_law_272 : decode cL_law 272 = .ok (.iload 4, 2) := dk_21 4 (dk_at dksL_law_7 11 rfl rfl)
theorem dL_law_274 : decode cL_law 274 = .ok (.iconst 2, 1) := dk_5 (dk_at dksL_law_7 13 rfl rfl)
theorem dL_law_275 : decode cL_law 275 = .ok (.iadd, 1) := dk_96 (dk_at dksL_law_7 14 rfl rfl)
theorem dL_law_276 : decode cL_law 276 = .ok (.iaload, 1) := dk_46 (dk_at dksL_law_7 15 rfl rfl)
theorem dL_law_277 : decode cL_law 277 = .ok (.ifCond .eq 7, 3) := dk_153 0 7 (dk_at dksL_law_7 16 rfl rfl)
theorem dL_law_280 : decode cL_law 280 = .ok (.iconst 1, 1) := dk_4 (dk_at dksL_law_7 19 rfl rfl)
theorem dL_law_281 : decode cL_law 281 = .ok (.goto 4, 3) := dk_167 0 4 (dk_at dksL_law_7 20 rfl rfl)
theorem dL_law_284 : decode cL_law 284 = .ok (.iconst 0, 1) := dk_3 (dk_at dksL_law_7 23 rfl rfl)
theorem dL_law_285 : decode cL_law 285 = .ok (.aload_n 0, 1) := dk_42 (dk_at dksL_law_8 0 rfl rfl)
theorem dL_law_286 : decode cL_law 286 = .ok (.iload 4, 2) := dk_21 4 (dk_at dksL_law_8 1 rfl rfl)
theorem dL_law_288 : decode cL_law 288 = .ok (.iconst 3, 1) := dk_6 (dk_at dksL_law_8 3 rfl rfl)
theorem dL_law_289 : decode cL_law 289 = .ok (.iadd, 1) := dk_96 (dk_at dksL_law_8 4 rfl rfl)
theorem dL_law_290 : decode cL_law 290 = .ok (.iaload, 1) := dk_46 (dk_at dksL_law_8 5 rfl rfl)
theorem dL_law_291 : decode cL_law 291 = .ok (.aload_n 0, 1) := dk_42 (dk_at dksL_law_8 6 rfl rfl)
theorem dL_law_292 : decode cL_law 292 = .ok (.iload 4, 2) := dk_21 4 (dk_at dksL_law_8 7 rfl rfl)
theorem dL_law_294 : decode cL_law 294 = .ok (.iconst 4, 1) := dk_7 (dk_at dksL_law_8 9 rfl rfl)
theorem dL_law_295 : decode cL_law 295 = .ok (.iadd, 1) := dk_96 (dk_at dksL_law_8 10 rfl rfl)
theorem dL_law_296 : decode cL_law 296 = .ok (.iaload, 1) := dk_46 (dk_at dksL_law_8 11 rfl rfl)
theorem dL_law_297 : decode cL_law 297 = .ok (.aload_n 3, 1) := dk_45 (dk_at dksL_law_8 12 rfl rfl)
theorem dL_law_298 : decode cL_law 298 = .ok (.invokestatic 112, 3) := dk_184 0 112 (dk_at dksL_law_8 13 rfl rfl)
theorem dL_law_301 : decode cL_law 301 = .ok (.istore 5, 2) := dk_54 5 (dk_at dksL_law_8 16 rfl rfl)
theorem dL_law_303 : decode cL_law 303 = .ok (.aload_n 2, 1) := dk_44 (dk_at dksL_law_8 18 rfl rfl)
theorem dL_law_304 : decode cL_law 304 = .ok (.aload_n 0, 1) := dk_42 (dk_at dksL_law_8 19 rfl rfl)
theorem dL_law_305 : decode cL_law 305 = .ok (.iload 4, 2) := dk_21 4 (dk_at dksL_law_8 20 rfl rfl)
theorem dL_law_307 : decode cL_law 307 = .ok (.iconst 1, 1) := dk_4 (dk_at dksL_law_8 22 rfl rfl)
theorem dL_law_308 : decode cL_law 308 = .ok (.iadd, 1) := dk_96 (dk_at dksL_law_8 23 rfl rfl)
theorem dL_law_309 : decode cL_law 309 = .ok (.iaload, 1) := dk_46 (dk_at dksL_law_9 0 rfl rfl)
theorem dL_law_310 : decode cL_law 310 = .ok (.aload_n 0, 1) := dk_42 (dk_at dksL_law_9 1 rfl rfl)
theorem dL_law_311 : decode cL_law 311 = .ok (.iload 4, 2) := dk_21 4 (dk_at dksL_law_9 2 rfl rfl)
theorem dL_law_313 : decode cL_law 313 = .ok (.iconst 2, 1) := dk_5 (dk_at dksL_law_9 4 rfl rfl)
theorem dL_law_314 : decode cL_law 314 = .ok (.iadd, 1) := dk_96 (dk_at dksL_law_9 5 rfl rfl)
theorem dL_law_315 : decode cL_law 315 = .ok (.iaload, 1) := dk_46 (dk_at dksL_law_9 6 rfl rfl)
theorem dL_law_316 : decode cL_law 316 = .ok (.ifCond .eq 7, 3) := dk_153 0 7 (dk_at dksL_law_9 7 rfl rfl)
theorem dL_law_319 : decode cL_law 319 = .ok (.iconst 1, 1) := dk_4 (dk_at dksL_law_9 10 rfl rfl)
theorem dL_law_320 : decode cL_law 320 = .ok (.goto 4, 3) := dk_167 0 4 (dk_at dksL_law_9 11 rfl rfl)
theorem dL_law_323 : decode cL_law 323 = .ok (.iconst 0, 1) := dk_3 (dk_at dksL_law_9 14 rfl rfl)
theorem dL_law_324 : decode cL_law 324 = .ok (.aload_n 0, 1) := dk_42 (dk_at dksL_law_9 15 rfl rfl)
theorem dL_law_325 : decode cL_law 325 = .ok (.iload 4, 2) := dk_21 4 (dk_at dksL_law_9 16 rfl rfl)
theorem dL_law_327 : decode cL_law 327 = .ok (.iconst 3, 1) := dk_6 (dk_at dksL_law_9 18 rfl rfl)
theorem dL_law_328 : decode cL_law 328 = .ok (.iadd, 1) := dk_96 (dk_at dksL_law_9 19 rfl rfl)
theorem dL_law_329 : decode cL_law 329 = .ok (.iaload, 1) := dk_46 (dk_at dksL_law_9 20 rfl rfl)
theorem dL_law_330 : decode cL_law 330 = .ok (.aload_n 0, 1) := dk_42 (dk_at dksL_law_9 21 rfl rfl)
theorem dL_law_331 : decode cL_law 331 = .ok (.iload 4, 2) := dk_21 4 (dk_at dksL_law_9 22 rfl rfl)
theorem dL_law_333 : decode cL_law 333 = .ok (.iconst 4, 1) := dk_7 (dk_at dksL_law_10 0 rfl rfl)
theorem dL_law_334 : decode cL_law 334 = .ok (.iadd, 1) := dk_96 (dk_at dksL_law_10 1 rfl rfl)
theorem dL_law_335 : decode cL_law 335 = .ok (.iaload, 1) := dk_46 (dk_at dksL_law_10 2 rfl rfl)
theorem dL_law_336 : decode cL_law 336 = .ok (.invokevirtual 115, 3) := dk_182 0 115 (dk_at dksL_law_10 3 rfl rfl)
theorem dL_law_339 : decode cL_law 339 = .ok (.istore 6, 2) := dk_54 6 (dk_at dksL_law_10 6 rfl rfl)
theorem dL_law_341 : decode cL_law 341 = .ok (.aload_n 2, 1) := dk_44 (dk_at dksL_law_10 8 rfl rfl)
theorem dL_law_342 : decode cL_law 342 = .ok (.invokevirtual 109, 3) := dk_182 0 109 (dk_at dksL_law_10 9 rfl rfl)
theorem dL_law_345 : decode cL_law 345 = .ok (.iload 5, 2) := dk_21 5 (dk_at dksL_law_10 12 rfl rfl)
theorem dL_law_347 : decode cL_law 347 = .ok (.if_icmp .eq 5, 3) := dk_159 0 5 (dk_at dksL_law_10 14 rfl rfl)
theorem dL_law_350 : decode cL_law 350 = .ok (.iconst 0, 1) := dk_3 (dk_at dksL_law_10 17 rfl rfl)
theorem dL_law_351 : decode cL_law 351 = .ok (.ireturn, 1) := dk_172 (dk_at dksL_law_10 18 rfl rfl)
theorem dL_law_352 : decode cL_law 352 = .ok (.iload 5, 2) := dk_21 5 (dk_at dksL_law_10 19 rfl rfl)
theorem dL_law_354 : decode cL_law 354 = .ok (.ifCond .ne 15, 3) := dk_154 0 15 (dk_at dksL_law_10 21 rfl rfl)
theorem dL_law_357 : decode cL_law 357 = .ok (.aload_n 3, 1) := dk_45 (dk_at dksL_law_11 0 rfl rfl)
theorem dL_law_358 : decode cL_law 358 = .ok (.iconst 0, 1) := dk_3 (dk_at dksL_law_11 1 rfl rfl)
theorem dL_law_359 : decode cL_law 359 = .ok (.laload, 1) := dk_47 (dk_at dksL_law_11 2 rfl rfl)
theorem dL_law_360 : decode cL_law 360 = .ok (.iload 6, 2) := dk_21 6 (dk_at dksL_law_11 3 rfl rfl)
theorem dL_law_362 : decode cL_law 362 = .ok (.i2l, 1) := dk_133 (dk_at dksL_law_11 5 rfl rfl)
theorem dL_law_363 : decode cL_law 363 = .ok (.lcmp, 1) := dk_148 (dk_at dksL_law_11 6 rfl rfl)
theorem dL_law_364 : decode cL_law 364 = .ok (.ifCond .eq 5, 3) := dk_153 0 5 (dk_at dksL_law_11 7 rfl rfl)
theorem dL_law_367 : decode cL_law 367 = .ok (.iconst 0, 1) := dk_3 (dk_at dksL_law_11 10 rfl rfl)
theorem dL_law_368 : decode cL_law 368 = .ok (.ireturn, 1) := dk_172 (dk_at dksL_law_11 11 rfl rfl)
theorem dL_law_369 : decode cL_law 369 = .ok (.goto 1827, 3) := dk_167 7 35 (dk_at dksL_law_11 12 rfl rfl)
theorem dL_law_372 : decode cL_law 372 = .ok (.aload_n 1, 1) := dk_43 (dk_at dksL_law_11 15 rfl rfl)
theorem dL_law_373 : decode cL_law 373 = .ok (.aload_n 0, 1) := dk_42 (dk_at dksL_law_11 16 rfl rfl)
theorem dL_law_374 : decode cL_law 374 = .ok (.iload 4, 2) := dk_21 4 (dk_at dksL_law_11 17 rfl rfl)
theorem dL_law_376 : decode cL_law 376 = .ok (.iconst 1, 1) := dk_4 (dk_at dksL_law_11 19 rfl rfl)
theorem dL_law_377 : decode cL_law 377 = .ok (.iadd, 1) := dk_96 (dk_at dksL_law_11 20 rfl rfl)
theorem dL_law_378 : decode cL_law 378 = .ok (.iaload, 1) := dk_46 (dk_at dksL_law_11 21 rfl rfl)
theorem dL_law_379 : decode cL_law 379 = .ok (.aload_n 0, 1) := dk_42 (dk_at dksL_law_11 22 rfl rfl)
theorem dL_law_380 : decode cL_law 380 = .ok (.iload 4, 2) := dk_21 4 (dk_at dksL_law_12 0 rfl rfl)
theorem dL_law_382 : decode cL_law 382 = .ok (.iconst 2, 1) := dk_5 (dk_at dksL_law_12 2 rfl rfl)
theorem dL_law_383 : decode cL_law 383 = .ok (.iadd, 1) := dk_96 (dk_at dksL_law_12 3 rfl rfl)
theorem dL_law_384 : decode cL_law 384 = .ok (.iaload, 1) := dk_46 (dk_at dksL_law_12 4 rfl rfl)
theorem dL_law_385 : decode cL_law 385 = .ok (.ifCond .eq 7, 3) := dk_153 0 7 (dk_at dksL_law_12 5 rfl rfl)
theorem dL_law_388 : decode cL_law 388 = .ok (.iconst 1, 1) := dk_4 (dk_at dksL_law_12 8 rfl rfl)
theorem dL_law_389 : decode cL_law 389 = .ok (.goto 4, 3) := dk_167 0 4 (dk_at dksL_law_12 9 rfl rfl)
theorem dL_law_392 : decode cL_law 392 = .ok (.iconst 0, 1) := dk_3 (dk_at dksL_law_12 12 rfl rfl)
theorem dL_law_393 : decode cL_law 393 = .ok (.aload_n 0, 1) := dk_42 (dk_at dksL_law_12 13 rfl rfl)
theorem dL_law_394 : decode cL_law 394 = .ok (.iload 4, 2) := dk_21 4 (dk_at dksL_law_12 14 rfl rfl)
theorem dL_law_396 : decode cL_law 396 = .ok (.iconst 3, 1) := dk_6 (dk_at dksL_law_12 16 rfl rfl)
theorem dL_law_397 : decode cL_law 397 = .ok (.iadd, 1) := dk_96 (dk_at dksL_law_12 17 rfl rfl)
theorem dL_law_398 : decode cL_law 398 = .ok (.iaload, 1) := dk_46 (dk_at dksL_law_12 18 rfl rfl)
theorem dL_law_399 : decode cL_law 399 = .ok (.aload_n 3, 1) := dk_45 (dk_at dksL_law_12 19 rfl rfl)
theorem dL_law_400 : decode cL_law 400 = .ok (.invokestatic 116, 3) := dk_184 0 116 (dk_at dksL_law_12 20 rfl rfl)
theorem dL_law_403 : decode cL_law 403 = .ok (.istore 5, 2) := dk_54 5 (dk_at dksL_law_13 0 rfl rfl)
theorem dL_law_405 : decode cL_law 405 = .ok (.aload_n 2, 1) := dk_44 (dk_at dksL_law_13 2 rfl rfl)
theorem dL_law_406 : decode cL_law 406 = .ok (.aload_n 0, 1) := dk_42 (dk_at dksL_law_13 3 rfl rfl)
theorem dL_law_407 : decode cL_law 407 = .ok (.iload 4, 2) := dk_21 4 (dk_at dksL_law_13 4 rfl rfl)
theorem dL_law_409 : decode cL_law 409 = .ok (.iconst 1, 1) := dk_4 (dk_at dksL_law_13 6 rfl rfl)
theorem dL_law_410 : decode cL_law 410 = .ok (.iadd, 1) := dk_96 (dk_at dksL_law_13 7 rfl rfl)
theorem dL_law_411 : decode cL_law 411 = .ok (.iaload, 1) := dk_46 (dk_at dksL_law_13 8 rfl rfl)
theorem dL_law_412 : decode cL_law 412 = .ok (.aload_n 0, 1) := dk_42 (dk_at dksL_law_13 9 rfl rfl)
theorem dL_law_413 : decode cL_law 413 = .ok (.iload 4, 2) := dk_21 4 (dk_at dksL_law_13 10 rfl rfl)
theorem dL_law_415 : decode cL_law 415 = .ok (.iconst 2, 1) := dk_5 (dk_at dksL_law_13 12 rfl rfl)
theorem dL_law_416 : decode cL_law 416 = .ok (.iadd, 1) := dk_96 (dk_at dksL_law_13 13 rfl rfl)
theorem dL_law_417 : decode cL_law 417 = .ok (.iaload, 1) := dk_46 (dk_at dksL_law_13 14 rfl rfl)
theorem dL_law_418 : decode cL_law 418 = .ok (.ifCond .eq 7, 3) := dk_153 0 7 (dk_at dksL_law_13 15 rfl rfl)
theorem dL_law_421 : decode cL_law 421 = .ok (.iconst 1, 1) := dk_4 (dk_at dksL_law_13 18 rfl rfl)
theorem dL_law_422 : decode cL_law 422 = .ok (.goto 4, 3) := dk_167 0 4 (dk_at dksL_law_13 19 rfl rfl)
theorem dL_law_425 : decode cL_law 425 = .ok (.iconst 0, 1) := dk_3 (dk_at dksL_law_13 22 rfl rfl)
theorem dL_law_426 : decode cL_law 426 = .ok (.aload_n 0, 1) := dk_42 (dk_at dksL_law_13 23 rfl rfl)
theorem dL_law_427 : decode cL_law 427 = .ok (.iload 4, 2) := dk_21 4 (dk_at dksL_law_14 0 rfl rfl)
theorem dL_law_429 : decode cL_law 429 = .ok (.iconst 3, 1) := dk_6 (dk_at dksL_law_14 2 rfl rfl)
theorem dL_law_430 : decode cL_law 430 = .ok (.iadd, 1) := dk_96 (dk_at dksL_law_14 3 rfl rfl)
theorem dL_law_431 : decode cL_law 431 = .ok (.iaload, 1) := dk_46 (dk_at dksL_law_14 4 rfl rfl)
theorem dL_law_432 : decode cL_law 432 = .ok (.invokevirtual 118, 3) := dk_182 0 118 (dk_at dksL_law_14 5 rfl rfl)
theorem dL_law_435 : decode cL_law 435 = .ok (.istore 6, 2) := dk_54 6 (dk_at dksL_law_14 8 rfl rfl)
theorem dL_law_437 : decode cL_law 437 = .ok (.aload_n 2, 1) := dk_44 (dk_at dksL_law_14 10 rfl rfl)
theorem dL_law_438 : decode cL_law 438 = .ok (.invokevirtual 109, 3) := dk_182 0 109 (dk_at dksL_law_14 11 rfl rfl)
theorem dL_law_441 : decode cL_law 441 = .ok (.iload 5, 2) := dk_21 5 (dk_at dksL_law_14 14 rfl rfl)
theorem dL_law_443 : decode cL_law 443 = .ok (.if_icmp .eq 5, 3) := dk_159 0 5 (dk_at dksL_law_14 16 rfl rfl)
theorem dL_law_446 : decode cL_law 446 = .ok (.iconst 0, 1) := dk_3 (dk_at dksL_law_14 19 rfl rfl)
theorem dL_law_447 : decode cL_law 447 = .ok (.ireturn, 1) := dk_172 (dk_at dksL_law_14 20 rfl rfl)
theorem dL_law_448 : decode cL_law 448 = .ok (.iload 5, 2) := dk_21 5 (dk_at dksL_law_14 21 rfl rfl)
theorem dL_law_450 : decode cL_law 450 = .ok (.ifCond .ne 15, 3) := dk_154 0 15 (dk_at dksL_law_15 0 rfl rfl)
theorem dL_law_453 : decode cL_law 453 = .ok (.aload_n 3, 1) := dk_45 (dk_at dksL_law_15 3 rfl rfl)
theorem dL_law_454 : decode cL_law 454 = .ok (.iconst 0, 1) := dk_3 (dk_at dksL_law_15 4 rfl rfl)
theorem dL_law_455 : decode cL_law 455 = .ok (.laload, 1) := dk_47 (dk_at dksL_law_15 5 rfl rfl)
theorem dL_law_456 : decode cL_law 456 = .ok (.iload 6, 2) := dk_21 6 (dk_at dksL_law_15 6 rfl rfl)
theorem dL_law_458 : decode cL_law 458 = .ok (.i2l, 1) := dk_133 (dk_at dksL_law_15 8 rfl rfl)
theorem dL_law_459 : decode cL_law 459 = .ok (.lcmp, 1) := dk_148 (dk_at dksL_law_15 9 rfl rfl)
theorem dL_law_460 : decode cL_law 460 = .ok (.ifCond .eq 5, 3) := dk_153 0 5 (dk_at dksL_law_15 10 rfl rfl)
theorem dL_law_463 : decode cL_law 463 = .ok (.iconst 0, 1) := dk_3 (dk_at dksL_law_15 13 rfl rfl)
theorem dL_law_464 : decode cL_law 464 = .ok (.ireturn, 1) := dk_172 (dk_at dksL_law_15 14 rfl rfl)
theorem dL_law_465 : decode cL_law 465 = .ok (.goto 1731, 3) := dk_167 6 195 (dk_at dksL_law_15 15 rfl rfl)
theorem dL_law_468 : decode cL_law 468 = .ok (.aload_n 1, 1) := dk_43 (dk_at dksL_law_15 18 rfl rfl)
theorem dL_law_469 : decode cL_law 469 = .ok (.aload_n 0, 1) := dk_42 (dk_at dksL_law_15 19 rfl rfl)
theorem dL_law_470 : decode cL_law 470 = .ok (.iload 4, 2) := dk_21 4 (dk_at dksL_law_15 20 rfl rfl)
theorem dL_law_472 : decode cL_law 472 = .ok (.iconst 1, 1) := dk_4 (dk_at dksL_law_15 22 rfl rfl)
theorem dL_law_473 : decode cL_law 473 = .ok (.iadd, 1) := dk_96 (dk_at dksL_law_15 23 rfl rfl)
theorem dL_law_474 : decode cL_law 474 = .ok (.iaload, 1) := dk_46 (dk_at dksL_law_16 0 rfl rfl)
theorem dL_law_475 : decode cL_law 475 = .ok (.aload_n 0, 1) := dk_42 (dk_at dksL_law_16 1 rfl rfl)
theorem dL_law_476 : decode cL_law 476 = .ok (.iload 4, 2) := dk_21 4 (dk_at dksL_law_16 2 rfl rfl)
theorem dL_law_478 : decode cL_law 478 = .ok (.iconst 2, 1) := dk_5 (dk_at dksL_law_16 4 rfl rfl)
theorem dL_law_479 : decode cL_law 479 = .ok (.iadd, 1) := dk_96 (dk_at dksL_law_16 5 rfl rfl)
theorem dL_law_480 : decode cL_law 480 = .ok (.iaload, 1) := dk_46 (dk_at dksL_law_16 6 rfl rfl)
theorem dL_law_481 : decode cL_law 481 = .ok (.ifCond .eq 7, 3) := dk_153 0 7 (dk_at dksL_law_16 7 rfl rfl)
theorem dL_law_484 : decode cL_law 484 = .ok (.iconst 1, 1) := dk_4 (dk_at dksL_law_16 10 rfl rfl)
theorem dL_law_485 : decode cL_law 485 = .ok (.goto 4, 3) := dk_167 0 4 (dk_at dksL_law_16 11 rfl rfl)
theorem dL_law_488 : decode cL_law 488 = .ok (.iconst 0, 1) := dk_3 (dk_at dksL_law_16 14 rfl rfl)
theorem dL_law_489 : decode cL_law 489 = .ok (.aload_n 3, 1) := dk_45 (dk_at dksL_law_16 15 rfl rfl)
theorem dL_law_490 : decode cL_law 490 = .ok (.invokestatic 119, 3) := dk_184 0 119 (dk_at dksL_law_16 16 rfl rfl)
theorem dL_law_493 : decode cL_law 493 = .ok (.istore 5, 2) := dk_54 5 (dk_at dksL_law_16 19 rfl rfl)
theorem dL_law_495 : decode cL_law 495 = .ok (.aload_n 2, 1) := dk_44 (dk_at dksL_law_16 21 rfl rfl)
theorem dL_law_496 : decode cL_law 496 = .ok (.aload_n 0, 1) := dk_42 (dk_at dksL_law_16 22 rfl rfl)
theorem dL_law_497 : decode cL_law 497 = .ok (.iload 4, 2) := dk_21 4 (dk_at dksL_law_17 0 rfl rfl)
theorem dL_law_499 : decode cL_law 499 = .ok (.iconst 1, 1) := dk_4 (dk_at dksL_law_17 2 rfl rfl)
theorem dL_law_500 : decode cL_law 500 = .ok (.iadd, 1) := dk_96 (dk_at dksL_law_17 3 rfl rfl)
theorem dL_law_501 : decode cL_law 501 = .ok (.iaload, 1) := dk_46 (dk_at dksL_law_17 4 rfl rfl)
theorem dL_law_502 : decode cL_law 502 = .ok (.aload_n 0, 1) := dk_42 (dk_at dksL_law_17 5 rfl rfl)
theorem dL_law_503 : decode cL_law 503 = .ok (.iload 4, 2) := dk_21 4 (dk_at dksL_law_17 6 rfl rfl)
theorem dL_law_505 : decode cL_law 505 = .ok (.iconst 2, 1) := dk_5 (dk_at dksL_law_17 8 rfl rfl)
theorem dL_law_506 : decode cL_law 506 = .ok (.iadd, 1) := dk_96 (dk_at dksL_law_17 9 rfl rfl)
theorem dL_law_507 : decode cL_law 507 = .ok (.iaload, 1) := dk_46 (dk_at dksL_law_17 10 rfl rfl)
theorem dL_law_508 : decode cL_law 508 = .ok (.ifCond .eq 7, 3) := dk_153 0 7 (dk_at dksL_law_17 11 rfl rfl)
theorem dL_law_511 : decode cL_law 511 = .ok (.iconst 1, 1) := dk_4 (dk_at dksL_law_17 14 rfl rfl)
theorem dL_law_512 : decode cL_law 512 = .ok (.goto 4, 3) := dk_167 0 4 (dk_at dksL_law_17 15 rfl rfl)
theorem dL_law_515 : decode cL_law 515 = .ok (.iconst 0, 1) := dk_3 (dk_at dksL_law_17 18 rfl rfl)
theorem dL_law_516 : decode cL_law 516 = .ok (.invokevirtual 122, 3) := dk_182 0 122 (dk_at dksL_law_17 19 rfl rfl)
theorem dL_law_519 : decode cL_law 519 = .ok (.istore 6, 2) := dk_54 6 (dk_at dksL_law_17 22 rfl rfl)
theorem dL_law_521 : decode cL_law 521 = .ok (.aload_n 2, 1) := dk_44 (dk_at dksL_law_18 0 rfl rfl)
theorem dL_law_522 : decode cL_law 522 = .ok (.invokevirtual 109, 3) := dk_182 0 109 (dk_at dksL_law_18 1 rfl rfl)
theorem dL_law_525 : decode cL_law 525 = .ok (.iload 5, 2) := dk_21 5 (dk_at dksL_law_18 4 rfl rfl)
theorem dL_law_527 : decode cL_law 527 = .ok (.if_icmp .eq 5, 3) := dk_159 0 5 (dk_at dksL_law_18 6 rfl rfl)
theorem dL_law_530 : decode cL_law 530 = .ok (.iconst 0, 1) := dk_3 (dk_at dksL_law_18 9 rfl rfl)
theorem dL_law_531 : decode cL_law 531 = .ok (.ireturn, 1) := dk_172 (dk_at dksL_law_18 10 rfl rfl)
theorem dL_law_532 : decode cL_law 532 = .ok (.iload 5, 2) := dk_21 5 (dk_at dksL_law_18 11 rfl rfl)
theorem dL_law_534 : decode cL_law 534 = .ok (.ifCond .ne 15, 3) := dk_154 0 15 (dk_at dksL_law_18 13 rfl rfl)
theorem dL_law_537 : decode cL_law 537 = .ok (.aload_n 3, 1) := dk_45 (dk_at dksL_law_18 16 rfl rfl)
theorem dL_law_538 : decode cL_law 538 = .ok (.iconst 0, 1) := dk_3 (dk_at dksL_law_18 17 rfl rfl)
theorem dL_law_539 : decode cL_law 539 = .ok (.laload, 1) := dk_47 (dk_at dksL_law_18 18 rfl rfl)
theorem dL_law_540 : decode cL_law 540 = .ok (.iload 6, 2) := dk_21 6 (dk_at dksL_law_18 19 rfl rfl)
theorem dL_law_542 : decode cL_law 542 = .ok (.i2l, 1) := dk_133 (dk_at dksL_law_18 21 rfl rfl)
theorem dL_law_543 : decode cL_law 543 = .ok (.lcmp, 1) := dk_148 (dk_at dksL_law_18 22 rfl rfl)
theorem dL_law_544 : decode cL_law 544 = .ok (.ifCond .eq 5, 3) := dk_153 0 5 (dk_at dksL_law_19 0 rfl rfl)
theorem dL_law_547 : decode cL_law 547 = .ok (.iconst 0, 1) := dk_3 (dk_at dksL_law_19 3 rfl rfl)
theorem dL_law_548 : decode cL_law 548 = .ok (.ireturn, 1) := dk_172 (dk_at dksL_law_19 4 rfl rfl)
theorem dL_law_549 : decode cL_law 549 = .ok (.goto 1647, 3) := dk_167 6 111 (dk_at dksL_law_19 5 rfl rfl)
theorem dL_law_552 : decode cL_law 552 = .ok (.aload_n 1, 1) := dk_43 (dk_at dksL_law_19 8 rfl rfl)
theorem dL_law_553 : decode cL_law 553 = .ok (.aload_n 0, 1) := dk_42 (dk_at dksL_law_19 9 rfl rfl)
theorem dL_law_554 : decode cL_law 554 = .ok (.iload 4, 2) := dk_21 4 (dk_at dksL_law_19 10 rfl rfl)
theorem dL_law_556 : decode cL_law 556 = .ok (.iconst 1, 1) := dk_4 (dk_at dksL_law_19 12 rfl rfl)
theorem dL_law_557 : decode cL_law 557 = .ok (.iadd, 1) := dk_96 (dk_at dksL_law_19 13 rfl rfl)
theorem dL_law_558 : decode cL_law 558 = .ok (.iaload, 1) := dk_46 (dk_at dksL_law_19 14 rfl rfl)
theorem dL_law_559 : decode cL_law 559 = .ok (.aload_n 0, 1) := dk_42 (dk_at dksL_law_19 15 rfl rfl)
theorem dL_law_560 : decode cL_law 560 = .ok (.iload 4, 2) := dk_21 4 (dk_at dksL_law_19 16 rfl rfl)
theorem dL_law_562 : decode cL_law 562 = .ok (.iconst 2, 1) := dk_5 (dk_at dksL_law_19 18 rfl rfl)
theorem dL_law_563 : decode cL_law 563 = .ok (.iadd, 1) := dk_96 (dk_at dksL_law_19 19 rfl rfl)
theorem dL_law_564 : decode cL_law 564 = .ok (.iaload, 1) := dk_46 (dk_at dksL_law_19 20 rfl rfl)
theorem dL_law_565 : decode cL_law 565 = .ok (.ifCond .eq 7, 3) := dk_153 0 7 (dk_at dksL_law_19 21 rfl rfl)
theorem dL_law_568 : decode cL_law 568 = .ok (.iconst 1, 1) := dk_4 (dk_at dksL_law_20 0 rfl rfl)
theorem dL_law_569 : decode cL_law 569 = .ok (.goto 4, 3) := dk_167 0 4 (dk_at dksL_law_20 1 rfl rfl)
theorem dL_law_572 : decode cL_law 572 = .ok (.iconst 0, 1) := dk_3 (dk_at dksL_law_20 4 rfl rfl)
theorem dL_law_573 : decode cL_law 573 = .ok (.aload_n 0, 1) := dk_42 (dk_at dksL_law_20 5 rfl rfl)
theorem dL_law_574 : decode cL_law 574 = .ok (.iload 4, 2) := dk_21 4 (dk_at dksL_law_20 6 rfl rfl)
theorem dL_law_576 : decode cL_law 576 = .ok (.iconst 3, 1) := dk_6 (dk_at dksL_law_20 8 rfl rfl)
theorem dL_law_577 : decode cL_law 577 = .ok (.iadd, 1) := dk_96 (dk_at dksL_law_20 9 rfl rfl)
theorem dL_law_578 : decode cL_law 578 = .ok (.iaload, 1) := dk_46 (dk_at dksL_law_20 10 rfl rfl)
theorem dL_law_579 : decode cL_law 579 = .ok (.aload_n 3, 1) := dk_45 (dk_at dksL_law_20 11 rfl rfl)
theorem dL_law_580 : decode cL_law 580 = .ok (.invokestatic 123, 3) := dk_184 0 123 (dk_at dksL_law_20 12 rfl rfl)
theorem dL_law_583 : decode cL_law 583 = .ok (.istore 5, 2) := dk_54 5 (dk_at dksL_law_20 15 rfl rfl)
theorem dL_law_585 : decode cL_law 585 = .ok (.aload_n 2, 1) := dk_44 (dk_at dksL_law_20 17 rfl rfl)
theorem dL_law_586 : decode cL_law 586 = .ok (.aload_n 0, 1) := dk_42 (dk_at dksL_law_20 18 rfl rfl)
theorem dL_law_587 : decode cL_law 587 = .ok (.iload 4, 2) := dk_21 4 (dk_at dksL_law_20 19 rfl rfl)
theorem dL_law_589 : decode cL_law 589 = .ok (.iconst 1, 1) := dk_4 (dk_at dksL_law_20 21 rfl rfl)
theorem dL_law_590 : decode cL_law 590 = .ok (.iadd, 1) := dk_96 (dk_at dksL_law_20 22 rfl rfl)
theorem dL_law_591 : decode cL_law 591 = .ok (.iaload, 1) := dk_46 (dk_at dksL_law_20 23 rfl rfl)
theorem dL_law_592 : decode cL_law 592 = .ok (.aload_n 0, 1) := dk_42 (dk_at dksL_law_21 0 rfl rfl)
theorem dL_law_593 : decode cL_law 593 = .ok (.iload 4, 2) := dk_21 4 (dk_at dksL_law_21 1 rfl rfl)
theorem dL_law_595 : decode cL_law 595 = .ok (.iconst 2, 1) := dk_5 (dk_at dksL_law_21 3 rfl rfl)
theorem dL_law_596 : decode cL_law 596 = .ok (.iadd, 1) := dk_96 (dk_at dksL_law_21 4 rfl rfl)
theorem dL_law_597 : decode cL_law 597 = .ok (.iaload, 1) := dk_46 (dk_at dksL_law_21 5 rfl rfl)
theorem dL_law_598 : decode cL_law 598 = .ok (.ifCond .eq 7, 3) := dk_153 0 7 (dk_at dksL_law_21 6 rfl rfl)
theorem dL_law_601 : decode cL_law 601 = .ok (.iconst 1, 1) := dk_4 (dk_at dksL_law_21 9 rfl rfl)
theorem dL_law_602 : decode cL_law 602 = .ok (.goto 4, 3) := dk_167 0 4 (dk_at dksL_law_21 10 rfl rfl)
theorem dL_law_605 : decode cL_law 605 = .ok (.iconst 0, 1) := dk_3 (dk_at dksL_law_21 13 rfl rfl)
theorem dL_law_606 : decode cL_law 606 = .ok (.aload_n 0, 1) := dk_42 (dk_at dksL_law_21 14 rfl rfl)
theorem dL_law_607 : decode cL_law 607 = .ok (.iload 4, 2) := dk_21 4 (dk_at dksL_law_21 15 rfl rfl)
theorem dL_law_609 : decode cL_law 609 = .ok (.iconst 3, 1) := dk_6 (dk_at dksL_law_21 17 rfl rfl)
theorem dL_law_610 : decode cL_law 610 = .ok (.iadd, 1) := dk_96 (dk_at dksL_law_21 18 rfl rfl)
theorem dL_law_611 : decode cL_law 611 = .ok (.iaload, 1) := dk_46 (dk_at dksL_law_21 19 rfl rfl)
theorem dL_law_612 : decode cL_law 612 = .ok (.invokevirtual 125, 3) := dk_182 0 125 (dk_at dksL_law_21 20 rfl rfl)
theorem dL_law_615 : decode cL_law 615 = .ok (.istore 6, 2) := dk_54 6 (dk_at dksL_law_22 0 rfl rfl)
theorem dL_law_617 : decode cL_law 617 = .ok (.aload_n 2, 1) := dk_44 (dk_at dksL_law_22 2 rfl rfl)
theorem dL_law_618 : decode cL_law 618 = .ok (.invokevirtual 109, 3) := dk_182 0 109 (dk_at dksL_law_22 3 rfl rfl)
theorem dL_law_621 : decode cL_law 621 = .ok (.iload 5, 2) := dk_21 5 (dk_at dksL_law_22 6 rfl rfl)
theorem dL_law_623 : decode cL_law 623 = .ok (.if_icmp .eq 5, 3) := dk_159 0 5 (dk_at dksL_law_22 8 rfl rfl)
theorem dL_law_626 : decode cL_law 626 = .ok (.iconst 0, 1) := dk_3 (dk_at dksL_law_22 11 rfl rfl)
theorem dL_law_627 : decode cL_law 627 = .ok (.ireturn, 1) := dk_172 (dk_at dksL_law_22 12 rfl rfl)
theorem dL_law_628 : decode cL_law 628 = .ok (.iload 5, 2) := dk_21 5 (dk_at dksL_law_22 13 rfl rfl)
theorem dL_law_630 : decode cL_law 630 = .ok (.ifCond .ne 15, 3) := dk_154 0 15 (dk_at dksL_law_22 15 rfl rfl)
theorem dL_law_633 : decode cL_law 633 = .ok (.aload_n 3, 1) := dk_45 (dk_at dksL_law_22 18 rfl rfl)
theorem dL_law_634 : decode cL_law 634 = .ok (.iconst 0, 1) := dk_3 (dk_at dksL_law_22 19 rfl rfl)
theorem dL_law_635 : decode cL_law 635 = .ok (.laload, 1) := dk_47 (dk_at dksL_law_22 20 rfl rfl)
theorem dL_law_636 : decode cL_law 636 = .ok (.iload 6, 2) := dk_21 6 (dk_at dksL_law_22 21 rfl rfl)
theorem dL_law_638 : decode cL_law 638 = .ok (.i2l, 1) := dk_133 (dk_at dksL_law_22 23 rfl rfl)
theorem dL_law_639 : decode cL_law 639 = .ok (.lcmp, 1) := dk_148 (dk_at dksL_law_23 0 rfl rfl)
theorem dL_law_640 : decode cL_law 640 = .ok (.ifCond .eq 5, 3) := dk_153 0 5 (dk_at dksL_law_23 1 rfl rfl)
theorem dL_law_643 : decode cL_law 643 = .ok (.iconst 0, 1) := dk_3 (dk_at dksL_law_23 4 rfl rfl)
theorem dL_law_644 : decode cL_law 644 = .ok (.ireturn, 1) := dk_172 (dk_at dksL_law_23 5 rfl rfl)
theorem dL_law_645 : decode cL_law 645 = .ok (.goto 1551, 3) := dk_167 6 15 (dk_at dksL_law_23 6 rfl rfl)
theorem dL_law_648 : decode cL_law 648 = .ok (.aload_n 1, 1) := dk_43 (dk_at dksL_law_23 9 rfl rfl)
theorem dL_law_649 : decode cL_law 649 = .ok (.aload_n 0, 1) := dk_42 (dk_at dksL_law_23 10 rfl rfl)
theorem dL_law_650 : decode cL_law 650 = .ok (.iload 4, 2) := dk_21 4 (dk_at dksL_law_23 11 rfl rfl)
theorem dL_law_652 : decode cL_law 652 = .ok (.iconst 1, 1) := dk_4 (dk_at dksL_law_23 13 rfl rfl)
theorem dL_law_653 : decode cL_law 653 = .ok (.iadd, 1) := dk_96 (dk_at dksL_law_23 14 rfl rfl)
theorem dL_law_654 : decode cL_law 654 = .ok (.iaload, 1) := dk_46 (dk_at dksL_law_23 15 rfl rfl)
theorem dL_law_655 : decode cL_law 655 = .ok (.aload_n 0, 1) := dk_42 (dk_at dksL_law_23 16 rfl rfl)
theorem dL_law_656 : decode cL_law 656 = .ok (.iload 4, 2) := dk_21 4 (dk_at dksL_law_23 17 rfl rfl)
theorem dL_law_658 : decode cL_law 658 = .ok (.iconst 2, 1) := dk_5 (dk_at dksL_law_23 19 rfl rfl)
theorem dL_law_659 : decode cL_law 659 = .ok (.iadd, 1) := dk_96 (dk_at dksL_law_23 20 rfl rfl)
theorem dL_law_660 : decode cL_law 660 = .ok (.iaload, 1) := dk_46 (dk_at dksL_law_23 21 rfl rfl)
theorem dL_law_661 : decode cL_law 661 = .ok (.ifCond .eq 7, 3) := dk_153 0 7 (dk_at dksL_law_24 0 rfl rfl)
theorem dL_law_664 : decode cL_law 664 = .ok (.iconst 1, 1) := dk_4 (dk_at dksL_law_24 3 rfl rfl)
theorem dL_law_665 : decode cL_law 665 = .ok (.goto 4, 3) := dk_167 0 4 (dk_at dksL_law_24 4 rfl rfl)
theorem dL_law_668 : decode cL_law 668 = .ok (.iconst 0, 1) := dk_3 (dk_at dksL_law_24 7 rfl rfl)
theorem dL_law_669 : decode cL_law 669 = .ok (.aload_n 0, 1) := dk_42 (dk_at dksL_law_24 8 rfl rfl)
theorem dL_law_670 : decode cL_law 670 = .ok (.iload 4, 2) := dk_21 4 (dk_at dksL_law_24 9 rfl rfl)
theorem dL_law_672 : decode cL_law 672 = .ok (.iconst 3, 1) := dk_6 (dk_at dksL_law_24 11 rfl rfl)
theorem dL_law_673 : decode cL_law 673 = .ok (.iadd, 1) := dk_96 (dk_at dksL_law_24 12 rfl rfl)
theorem dL_law_674 : decode cL_law 674 = .ok (.iaload, 1) := dk_46 (dk_at dksL_law_24 13 rfl rfl)
theorem dL_law_675 : decode cL_law 675 = .ok (.aload_n 3, 1) := dk_45 (dk_at dksL_law_24 14 rfl rfl)
theorem dL_law_676 : decode cL_law 676 = .ok (.invokestatic 126, 3) := dk_184 0 126 (dk_at dksL_law_24 15 rfl rfl)
theorem dL_law_679 : decode cL_law 679 = .ok (.istore 5, 2) := dk_54 5 (dk_at dksL_law_24 18 rfl rfl)
theorem dL_law_681 : decode cL_law 681 = .ok (.aload_n 2, 1) := dk_44 (dk_at dksL_law_24 20 rfl rfl)
theorem dL_law_682 : decode cL_law 682 = .ok (.aload_n 0, 1) := dk_42 (dk_at dksL_law_24 21 rfl rfl)
theorem dL_law_683 : decode cL_law 683 = .ok (.iload 4, 2) := dk_21 4 (dk_at dksL_law_24 22 rfl rfl)
theorem dL_law_685 : decode cL_law 685 = .ok (.iconst 1, 1) := dk_4 (dk_at dksL_law_25 0 rfl rfl)
theorem dL_law_686 : decode cL_law 686 = .ok (.iadd, 1) := dk_96 (dk_at dksL_law_25 1 rfl rfl)
theorem dL_law_687 : decode cL_law 687 = .ok (.iaload, 1) := dk_46 (dk_at dksL_law_25 2 rfl rfl)
theorem dL_law_688 : decode cL_law 688 = .ok (.aload_n 0, 1) := dk_42 (dk_at dksL_law_25 3 rfl rfl)
theorem dL_law_689 : decode cL_law 689 = .ok (.iload 4, 2) := dk_21 4 (dk_at dksL_law_25 4 rfl rfl)
theorem dL_law_691 : decode cL_law 691 = .ok (.iconst 2, 1) := dk_5 (dk_at dksL_law_25 6 rfl rfl)
theorem dL_law_692 : decode cL_law 692 = .ok (.iadd, 1) := dk_96 (dk_at dksL_law_25 7 rfl rfl)
theorem dL_law_693 : decode cL_law 693 = .ok (.iaload, 1) := dk_46 (dk_at dksL_law_25 8 rfl rfl)
theorem dL_law_694 : decode cL_law 694 = .ok (.ifCond .eq 7, 3) := dk_153 0 7 (dk_at dksL_law_25 9 rfl rfl)
theorem dL_law_697 : decode cL_law 697 = .ok (.iconst 1, 1) := dk_4 (dk_at dksL_law_25 12 rfl rfl)
theorem dL_law_698 : decode cL_law 698 = .ok (.goto 4, 3) := dk_167 0 4 (dk_at dksL_law_25 13 rfl rfl)
theorem dL_law_701 : decode cL_law 701 = .ok (.iconst 0, 1) := dk_3 (dk_at dksL_law_25 16 rfl rfl)
theorem dL_law_702 : decode cL_law 702 = .ok (.aload_n 0, 1) := dk_42 (dk_at dksL_law_25 17 rfl rfl)
theorem dL_law_703 : decode cL_law 703 = .ok (.iload 4, 2) := dk_21 4 (dk_at dksL_law_25 18 rfl rfl)
theorem dL_law_705 : decode cL_law 705 = .ok (.iconst 3, 1) := dk_6 (dk_at dksL_law_25 20 rfl rfl)
theorem dL_law_706 : decode cL_law 706 = .ok (.iadd, 1) := dk_96 (dk_at dksL_law_25 21 rfl rfl)
theorem dL_law_707 : decode cL_law 707 = .ok (.iaload, 1) := dk_46 (dk_at dksL_law_25 22 rfl rfl)
theorem dL_law_708 : decode cL_law 708 = .ok (.invokevirtual 128, 3) := dk_182 0 128 (dk_at dksL_law_26 0 rfl rfl)
theorem dL_law_711 : decode cL_law 711 = .ok (.istore 6, 2) := dk_54 6 (dk_at dksL_law_26 3 rfl rfl)
theorem dL_law_713 : decode cL_law 713 = .ok (.aload_n 2, 1) := dk_44 (dk_at dksL_law_26 5 rfl rfl)
theorem dL_law_714 : decode cL_law 714 = .ok (.invokevirtual 109, 3) := dk_182 0 109 (dk_at dksL_law_26 6 rfl rfl)
theorem dL_law_717 : decode cL_law 717 = .ok (.iload 5, 2) := dk_21 5 (dk_at dksL_law_26 9 rfl rfl)
theorem dL_law_719 : decode cL_law 719 = .ok (.if_icmp .eq 5, 3) := dk_159 0 5 (dk_at dksL_law_26 11 rfl rfl)
theorem dL_law_722 : decode cL_law 722 = .ok (.iconst 0, 1) := dk_3 (dk_at dksL_law_26 14 rfl rfl)
theorem dL_law_723 : decode cL_law 723 = .ok (.ireturn, 1) := dk_172 (dk_at dksL_law_26 15 rfl rfl)
theorem dL_law_724 : decode cL_law 724 = .ok (.iload 5, 2) := dk_21 5 (dk_at dksL_law_26 16 rfl rfl)
theorem dL_law_726 : decode cL_law 726 = .ok (.ifCond .ne 15, 3) := dk_154 0 15 (dk_at dksL_law_26 18 rfl rfl)
theorem dL_law_729 : decode cL_law 729 = .ok (.aload_n 3, 1) := dk_45 (dk_at dksL_law_26 21 rfl rfl)
theorem dL_law_730 : decode cL_law 730 = .ok (.iconst 0, 1) := dk_3 (dk_at dksL_law_26 22 rfl rfl)
theorem dL_law_731 : decode cL_law 731 = .ok (.laload, 1) := dk_47 (dk_at dksL_law_26 23 rfl rfl)
theorem dL_law_732 : decode cL_law 732 = .ok (.iload 6, 2) := dk_21 6 (dk_at dksL_law_27 0 rfl rfl)
theorem dL_law_734 : decode cL_law 734 = .ok (.i2l, 1) := dk_133 (dk_at dksL_law_27 2 rfl rfl)
theorem dL_law_735 : decode cL_law 735 = .ok (.lcmp, 1) := dk_148 (dk_at dksL_law_27 3 rfl rfl)
theorem dL_law_736 : decode cL_law 736 = .ok (.ifCond .eq 5, 3) := dk_153 0 5 (dk_at dksL_law_27 4 rfl rfl)
theorem dL_law_739 : decode cL_law 739 = .ok (.iconst 0, 1) := dk_3 (dk_at dksL_law_27 7 rfl rfl)
theorem dL_law_740 : decode cL_law 740 = .ok (.ireturn, 1) := dk_172 (dk_at dksL_law_27 8 rfl rfl)
theorem dL_law_741 : decode cL_law 741 = .ok (.goto 1455, 3) := dk_167 5 175 (dk_at dksL_law_27 9 rfl rfl)
theorem dL_law_744 : decode cL_law 744 = .ok (.aload_n 1, 1) := dk_43 (dk_at dksL_law_27 12 rfl rfl)
theorem dL_law_745 : decode cL_law 745 = .ok (.aload_n 0, 1) := dk_42 (dk_at dksL_law_27 13 rfl rfl)
theorem dL_law_746 : decode cL_law 746 = .ok (.iload 4, 2) := dk_21 4 (dk_at dksL_law_27 14 rfl rfl)
theorem dL_law_748 : decode cL_law 748 = .ok (.iconst 1, 1) := dk_4 (dk_at dksL_law_27 16 rfl rfl)
theorem dL_law_749 : decode cL_law 749 = .ok (.iadd, 1) := dk_96 (dk_at dksL_law_27 17 rfl rfl)
theorem dL_law_750 : decode cL_law 750 = .ok (.iaload, 1) := dk_46 (dk_at dksL_law_27 18 rfl rfl)
theorem dL_law_751 : decode cL_law 751 = .ok (.aload_n 0, 1) := dk_42 (dk_at dksL_law_27 19 rfl rfl)
theorem dL_law_752 : decode cL_law 752 = .ok (.iload 4, 2) := dk_21 4 (dk_at dksL_law_27 20 rfl rfl)
theorem dL_law_754 : decode cL_law 754 = .ok (.iconst 2, 1) := dk_5 (dk_at dksL_law_27 22 rfl rfl)
theorem dL_law_755 : decode cL_law 755 = .ok (.iadd, 1) := dk_96 (dk_at dksL_law_27 23 rfl rfl)
theorem dL_law_756 : decode cL_law 756 = .ok (.iaload, 1) := dk_46 (dk_at dksL_law_28 0 rfl rfl)
theorem dL_law_757 : decode cL_law 757 = .ok (.ifCond .eq 7, 3) := dk_153 0 7 (dk_at dksL_law_28 1 rfl rfl)
theorem dL_law_760 : decode cL_law 760 = .ok (.iconst 1, 1) := dk_4 (dk_at dksL_law_28 4 rfl rfl)
theorem dL_law_761 : decode cL_law 761 = .ok (.goto 4, 3) := dk_167 0 4 (dk_at dksL_law_28 5 rfl rfl)
theorem dL_law_764 : decode cL_law 764 = .ok (.iconst 0, 1) := dk_3 (dk_at dksL_law_28 8 rfl rfl)
theorem dL_law_765 : decode cL_law 765 = .ok (.aload_n 0, 1) := dk_42 (dk_at dksL_law_28 9 rfl rfl)
theorem dL_law_766 : decode cL_law 766 = .ok (.iload 4, 2) := dk_21 4 (dk_at dksL_law_28 10 rfl rfl)
theorem dL_law_768 : decode cL_law 768 = .ok (.iconst 3, 1) := dk_6 (dk_at dksL_law_28 12 rfl rfl)
theorem dL_law_769 : decode cL_law 769 = .ok (.iadd, 1) := dk_96 (dk_at dksL_law_28 13 rfl rfl)
theorem dL_law_770 : decode cL_law 770 = .ok (.iaload, 1) := dk_46 (dk_at dksL_law_28 14 rfl rfl)
theorem dL_law_771 : decode cL_law 771 = .ok (.aload_n 3, 1) := dk_45 (dk_at dksL_law_28 15 rfl rfl)
theorem dL_law_772 : decode cL_law 772 = .ok (.invokestatic 129, 3) := dk_184 0 129 (dk_at dksL_law_28 16 rfl rfl)
theorem dL_law_775 : decode cL_law 775 = .ok (.istore 5, 2) := dk_54 5 (dk_at dksL_law_28 19 rfl rfl)
theorem dL_law_777 : decode cL_law 777 = .ok (.aload_n 2, 1) := dk_44 (dk_at dksL_law_28 21 rfl rfl)
theorem dL_law_778 : decode cL_law 778 = .ok (.aload_n 0, 1) := dk_42 (dk_at dksL_law_28 22 rfl rfl)
theorem dL_law_779 : decode cL_law 779 = .ok (.iload 4, 2) := dk_21 4 (dk_at dksL_law_29 0 rfl rfl)
theorem dL_law_781 : decode cL_law 781 = .ok (.iconst 1, 1) := dk_4 (dk_at dksL_law_29 2 rfl rfl)
theorem dL_law_782 : decode cL_law 782 = .ok (.iadd, 1) := dk_96 (dk_at dksL_law_29 3 rfl rfl)
theorem dL_law_783 : decode cL_law 783 = .ok (.iaload, 1) := dk_46 (dk_at dksL_law_29 4 rfl rfl)
theorem dL_law_784 : decode cL_law 784 = .ok (.aload_n 0, 1) := dk_42 (dk_at dksL_law_29 5 rfl rfl)
theorem dL_law_785 : decode cL_law 785 = .ok (.iload 4, 2) := dk_21 4 (dk_at dksL_law_29 6 rfl rfl)
theorem dL_law_787 : decode cL_law 787 = .ok (.iconst 2, 1) := dk_5 (dk_at dksL_law_29 8 rfl rfl)
theorem dL_law_788 : decode cL_law 788 = .ok (.iadd, 1) := dk_96 (dk_at dksL_law_29 9 rfl rfl)
theorem dL_law_789 : decode cL_law 789 = .ok (.iaload, 1) := dk_46 (dk_at dksL_law_29 10 rfl rfl)
theorem dL_law_790 : decode cL_law 790 = .ok (.ifCond .eq 7, 3) := dk_153 0 7 (dk_at dksL_law_29 11 rfl rfl)
theorem dL_law_793 : decode cL_law 793 = .ok (.iconst 1, 1) := dk_4 (dk_at dksL_law_29 14 rfl rfl)
theorem dL_law_794 : decode cL_law 794 = .ok (.goto 4, 3) := dk_167 0 4 (dk_at dksL_law_29 15 rfl rfl)
theorem dL_law_797 : decode cL_law 797 = .ok (.iconst 0, 1) := dk_3 (dk_at dksL_law_29 18 rfl rfl)
theorem dL_law_798 : decode cL_law 798 = .ok (.aload_n 0, 1) := dk_42 (dk_at dksL_law_29 19 rfl rfl)
theorem dL_law_799 : decode cL_law 799 = .ok (.iload 4, 2) := dk_21 4 (dk_at dksL_law_29 20 rfl rfl)
theorem dL_law_801 : decode cL_law 801 = .ok (.iconst 3, 1) := dk_6 (dk_at dksL_law_29 22 rfl rfl)
theorem dL_law_802 : decode cL_law 802 = .ok (.iadd, 1) := dk_96 (dk_at dksL_law_29 23 rfl rfl)
theorem dL_law_803 : decode cL_law 803 = .ok (.iaload, 1) := dk_46 (dk_at dksL_law_30 0 rfl rfl)
theorem dL_law_804 : decode cL_law 804 = .ok (.invokevirtual 131, 3) := dk_182 0 131 (dk_at dksL_law_30 1 rfl rfl)
theorem dL_law_807 : decode cL_law 807 = .ok (.istore 6, 2) := dk_54 6 (dk_at dksL_law_30 4 rfl rfl)
theorem dL_law_809 : decode cL_law 809 = .ok (.aload_n 2, 1) := dk_44 (dk_at dksL_law_30 6 rfl rfl)
theorem dL_law_810 : decode cL_law 810 = .ok (.invokevirtual 109, 3) := dk_182 0 109 (dk_at dksL_law_30 7 rfl rfl)
theorem dL_law_813 : decode cL_law 813 = .ok (.iload 5, 2) := dk_21 5 (dk_at dksL_law_30 10 rfl rfl)
theorem dL_law_815 : decode cL_law 815 = .ok (.if_icmp .eq 5, 3) := dk_159 0 5 (dk_at dksL_law_30 12 rfl rfl)
theorem dL_law_818 : decode cL_law 818 = .ok (.iconst 0, 1) := dk_3 (dk_at dksL_law_30 15 rfl rfl)
theorem dL_law_819 : decode cL_law 819 = .ok (.ireturn, 1) := dk_172 (dk_at dksL_law_30 16 rfl rfl)
theorem dL_law_820 : decode cL_law 820 = .ok (.iload 5, 2) := dk_21 5 (dk_at dksL_law_30 17 rfl rfl)
theorem dL_law_822 : decode cL_law 822 = .ok (.ifCond .ne 15, 3) := dk_154 0 15 (dk_at dksL_law_30 19 rfl rfl)
theorem dL_law_825 : decode cL_law 825 = .ok (.aload_n 3, 1) := dk_45 (dk_at dksL_law_30 22 rfl rfl)
theorem dL_law_826 : decode cL_law 826 = .ok (.iconst 0, 1) := dk_3 (dk_at dksL_law_30 23 rfl rfl)
theorem dL_law_827 : decode cL_law 827 = .ok (.laload, 1) := dk_47 (dk_at dksL_law_31 0 rfl rfl)
theorem dL_law_828 : decode cL_law 828 = .ok (.iload 6, 2) := dk_21 6 (dk_at dksL_law_31 1 rfl rfl)
theorem dL_law_830 : decode cL_law 830 = .ok (.i2l, 1) := dk_133 (dk_at dksL_law_31 3 rfl rfl)
theorem dL_law_831 : decode cL_law 831 = .ok (.lcmp, 1) := dk_148 (dk_at dksL_law_31 4 rfl rfl)
theorem dL_law_832 : decode cL_law 832 = .ok (.ifCond .eq 5, 3) := dk_153 0 5 (dk_at dksL_law_31 5 rfl rfl)
theorem dL_law_835 : decode cL_law 835 = .ok (.iconst 0, 1) := dk_3 (dk_at dksL_law_31 8 rfl rfl)
theorem dL_law_836 : decode cL_law 836 = .ok (.ireturn, 1) := dk_172 (dk_at dksL_law_31 9 rfl rfl)
theorem dL_law_837 : decode cL_law 837 = .ok (.goto 1359, 3) := dk_167 5 79 (dk_at dksL_law_31 10 rfl rfl)
theorem dL_law_840 : decode cL_law 840 = .ok (.aload_n 1, 1) := dk_43 (dk_at dksL_law_31 13 rfl rfl)
theorem dL_law_841 : decode cL_law 841 = .ok (.aload_n 0, 1) := dk_42 (dk_at dksL_law_31 14 rfl rfl)
theorem dL_law_842 : decode cL_law 842 = .ok (.iload 4, 2) := dk_21 4 (dk_at dksL_law_31 15 rfl rfl)
theorem dL_law_844 : decode cL_law 844 = .ok (.iconst 1, 1) := dk_4 (dk_at dksL_law_31 17 rfl rfl)
theorem dL_law_845 : decode cL_law 845 = .ok (.iadd, 1) := dk_96 (dk_at dksL_law_31 18 rfl rfl)
theorem dL_law_846 : decode cL_law 846 = .ok (.iaload, 1) := dk_46 (dk_at dksL_law_31 19 rfl rfl)
theorem dL_law_847 : decode cL_law 847 = .ok (.aload_n 0, 1) := dk_42 (dk_at dksL_law_31 20 rfl rfl)
theorem dL_law_848 : decode cL_law 848 = .ok (.iload 4, 2) := dk_21 4 (dk_at dksL_law_31 21 rfl rfl)
theorem dL_law_850 : decode cL_law 850 = .ok (.iconst 2, 1) := dk_5 (dk_at dksL_law_31 23 rfl rfl)
theorem dL_law_851 : decode cL_law 851 = .ok (.iadd, 1) := dk_96 (dk_at dksL_law_32 0 rfl rfl)
theorem dL_law_852 : decode cL_law 852 = .ok (.iaload, 1) := dk_46 (dk_at dksL_law_32 1 rfl rfl)
theorem dL_law_853 : decode cL_law 853 = .ok (.aload_n 0, 1) := dk_42 (dk_at dksL_law_32 2 rfl rfl)
theorem dL_law_854 : decode cL_law 854 = .ok (.iload 4, 2) := dk_21 4 (dk_at dksL_law_32 3 rfl rfl)
theorem dL_law_856 : decode cL_law 856 = .ok (.iconst 3, 1) := dk_6 (dk_at dksL_law_32 5 rfl rfl)
theorem dL_law_857 : decode cL_law 857 = .ok (.iadd, 1) := dk_96 (dk_at dksL_law_32 6 rfl rfl)
theorem dL_law_858 : decode cL_law 858 = .ok (.iaload, 1) := dk_46 (dk_at dksL_law_32 7 rfl rfl)
theorem dL_law_859 : decode cL_law 859 = .ok (.aload_n 0, 1) := dk_42 (dk_at dksL_law_32 8 rfl rfl)
theorem dL_law_860 : decode cL_law 860 = .ok (.iload 4, 2) := dk_21 4 (dk_at dksL_law_32 9 rfl rfl)
theorem dL_law_862 : decode cL_law 862 = .ok (.iconst 4, 1) := dk_7 (dk_at dksL_law_32 11 rfl rfl)
theorem dL_law_863 : decode cL_law 863 = .ok (.iadd, 1) := dk_96 (dk_at dksL_law_32 12 rfl rfl)
theorem dL_law_864 : decode cL_law 864 = .ok (.iaload, 1) := dk_46 (dk_at dksL_law_32 13 rfl rfl)
theorem dL_law_865 : decode cL_law 865 = .ok (.aload_n 3, 1) := dk_45 (dk_at dksL_law_32 14 rfl rfl)
theorem dL_law_866 : decode cL_law 866 = .ok (.invokestatic 132, 3) := dk_184 0 132 (dk_at dksL_law_32 15 rfl rfl)
theorem dL_law_869 : decode cL_law 869 = .ok (.istore 5, 2) := dk_54 5 (dk_at dksL_law_32 18 rfl rfl)
theorem dL_law_871 : decode cL_law 871 = .ok (.aload_n 2, 1) := dk_44 (dk_at dksL_law_32 20 rfl rfl)
theorem dL_law_872 : decode cL_law 872 = .ok (.aload_n 0, 1) := dk_42 (dk_at dksL_law_32 21 rfl rfl)
theorem dL_law_873 : decode cL_law 873 = .ok (.iload 4, 2) := dk_21 4 (dk_at dksL_law_32 22 rfl rfl)
theorem dL_law_875 : decode cL_law 875 = .ok (.iconst 1, 1) := dk_4 (dk_at dksL_law_33 0 rfl rfl)
theorem dL_law_876 : decode cL_law 876 = .ok (.iadd, 1) := dk_96 (dk_at dksL_law_33 1 rfl rfl)
theorem dL_law_877 : decode cL_law 877 = .ok (.iaload, 1) := dk_46 (dk_at dksL_law_33 2 rfl rfl)
theorem dL_law_878 : decode cL_law 878 = .ok (.aload_n 0, 1) := dk_42 (dk_at dksL_law_33 3 rfl rfl)
theorem dL_law_879 : decode cL_law 879 = .ok (.iload 4, 2) := dk_21 4 (dk_at dksL_law_33 4 rfl rfl)
theorem dL_law_881 : decode cL_law 881 = .ok (.iconst 2, 1) := dk_5 (dk_at dksL_law_33 6 rfl rfl)
theorem dL_law_882 : decode cL_law 882 = .ok (.iadd, 1) := dk_96 (dk_at dksL_law_33 7 rfl rfl)
theorem dL_law_883 : decode cL_law 883 = .ok (.iaload, 1) := dk_46 (dk_at dksL_law_33 8 rfl rfl)
theorem dL_law_884 : decode cL_law 884 = .ok (.aload_n 0, 1) := dk_42 (dk_at dksL_law_33 9 rfl rfl)
theorem dL_law_885 : decode cL_law 885 = .ok (.iload 4, 2) := dk_21 4 (dk_at dksL_law_33 10 rfl rfl)
theorem dL_law_887 : decode cL_law 887 = .ok (.iconst 3, 1) := dk_6 (dk_at dksL_law_33 12 rfl rfl)
theorem dL_law_888 : decode cL_law 888 = .ok (.iadd, 1) := dk_96 (dk_at dksL_law_33 13 rfl rfl)
theorem dL_law_889 : decode cL_law 889 = .ok (.iaload, 1) := dk_46 (dk_at dksL_law_33 14 rfl rfl)
theorem dL_law_890 : decode cL_law 890 = .ok (.aload_n 0, 1) := dk_42 (dk_at dksL_law_33 15 rfl rfl)
theorem dL_law_891 : decode cL_law 891 = .ok (.iload 4, 2) := dk_21 4 (dk_at dksL_law_33 16 rfl rfl)
theorem dL_law_893 : decode cL_law 893 = .ok (.iconst 4, 1) := dk_7 (dk_at dksL_law_33 18 rfl rfl)
theorem dL_law_894 : decode cL_law 894 = .ok (.iadd, 1) := dk_96 (dk_at dksL_law_33 19 rfl rfl)
theorem dL_law_895 : decode cL_law 895 = .ok (.iaload, 1) := dk_46 (dk_at dksL_law_33 20 rfl rfl)
theorem dL_law_896 : decode cL_law 896 = .ok (.invokevirtual 135, 3) := dk_182 0 135 (dk_at dksL_law_33 21 rfl rfl)
theorem dL_law_899 : decode cL_law 899 = .ok (.istore 6, 2) := dk_54 6 (dk_at dksL_law_34 0 rfl rfl)
theorem dL_law_901 : decode cL_law 901 = .ok (.aload_n 2, 1) := dk_44 (dk_at dksL_law_34 2 rfl rfl)
theorem dL_law_902 : decode cL_law 902 = .ok (.invokevirtual 109, 3) := dk_182 0 109 (dk_at dksL_law_34 3 rfl rfl)
theorem dL_law_905 : decode cL_law 905 = .ok (.iload 5, 2) := dk_21 5 (dk_at dksL_law_34 6 rfl rfl)
theorem dL_law_907 : decode cL_law 907 = .ok (.if_icmp .eq 5, 3) := dk_159 0 5 (dk_at dksL_law_34 8 rfl rfl)
theorem dL_law_910 : decode cL_law 910 = .ok (.iconst 0, 1) := dk_3 (dk_at dksL_law_34 11 rfl rfl)
theorem dL_law_911 : decode cL_law 911 = .ok (.ireturn, 1) := dk_172 (dk_at dksL_law_34 12 rfl rfl)
theorem dL_law_912 : decode cL_law 912 = .ok (.iload 5, 2) := dk_21 5 (dk_at dksL_law_34 13 rfl rfl)
theorem dL_law_914 : decode cL_law 914 = .ok (.ifCond .ne 15, 3) := dk_154 0 15 (dk_at dksL_law_34 15 rfl rfl)
theorem dL_law_917 : decode cL_law 917 = .ok (.aload_n 3, 1) := dk_45 (dk_at dksL_law_34 18 rfl rfl)
theorem dL_law_918 : decode cL_law 918 = .ok (.iconst 0, 1) := dk_3 (dk_at dksL_law_34 19 rfl rfl)
theorem dL_law_919 : decode cL_law 919 = .ok (.laload, 1) := dk_47 (dk_at dksL_law_34 20 rfl rfl)
theorem dL_law_920 : decode cL_law 920 = .ok (.iload 6, 2) := dk_21 6 (dk_at dksL_law_34 21 rfl rfl)
theorem dL_law_922 : decode cL_law 922 = .ok (.i2l, 1) := dk_133 (dk_at dksL_law_34 23 rfl rfl)
theorem dL_law_923 : decode cL_law 923 = .ok (.lcmp, 1) := dk_148 (dk_at dksL_law_35 0 rfl rfl)
theorem dL_law_924 : decode cL_law 924 = .ok (.ifCond .eq 5, 3) := dk_153 0 5 (dk_at dksL_law_35 1 rfl rfl)
theorem dL_law_927 : decode cL_law 927 = .ok (.iconst 0, 1) := dk_3 (dk_at dksL_law_35 4 rfl rfl)
theorem dL_law_928 : decode cL_law 928 = .ok (.ireturn, 1) := dk_172 (dk_at dksL_law_35 5 rfl rfl)
theorem dL_law_929 : decode cL_law 929 = .ok (.goto 1267, 3) := dk_167 4 243 (dk_at dksL_law_35 6 rfl rfl)
theorem dL_law_932 : decode cL_law 932 = .ok (.aload_n 1, 1) := dk_43 (dk_at dksL_law_35 9 rfl rfl)
theorem dL_law_933 : decode cL_law 933 = .ok (.aload_n 0, 1) := dk_42 (dk_at dksL_law_35 10 rfl rfl)
theorem dL_law_934 : decode cL_law 934 = .ok (.iload 4, 2) := dk_21 4 (dk_at dksL_law_35 11 rfl rfl)
theorem dL_law_936 : decode cL_law 936 = .ok (.iconst 1, 1) := dk_4 (dk_at dksL_law_35 13 rfl rfl)
theorem dL_law_937 : decode cL_law 937 = .ok (.iadd, 1) := dk_96 (dk_at dksL_law_35 14 rfl rfl)
theorem dL_law_938 : decode cL_law 938 = .ok (.iaload, 1) := dk_46 (dk_at dksL_law_35 15 rfl rfl)
theorem dL_law_939 : decode cL_law 939 = .ok (.aload_n 0, 1) := dk_42 (dk_at dksL_law_35 16 rfl rfl)
theorem dL_law_940 : decode cL_law 940 = .ok (.iload 4, 2) := dk_21 4 (dk_at dksL_law_35 17 rfl rfl)
theorem dL_law_942 : decode cL_law 942 = .ok (.iconst 2, 1) := dk_5 (dk_at dksL_law_35 19 rfl rfl)
theorem dL_law_943 : decode cL_law 943 = .ok (.iadd, 1) := dk_96 (dk_at dksL_law_35 20 rfl rfl)
theorem dL_law_944 : decode cL_law 944 = .ok (.iaload, 1) := dk_46 (dk_at dksL_law_35 21 rfl rfl)
theorem dL_law_945 : decode cL_law 945 = .ok (.aload_n 0, 1) := dk_42 (dk_at dksL_law_35 22 rfl rfl)
theorem dL_law_946 : decode cL_law 946 = .ok (.iload 4, 2) := dk_21 4 (dk_at dksL_law_36 0 rfl rfl)
theorem dL_law_948 : decode cL_law 948 = .ok (.iconst 3, 1) := dk_6 (dk_at dksL_law_36 2 rfl rfl)
theorem dL_law_949 : decode cL_law 949 = .ok (.iadd, 1) := dk_96 (dk_at dksL_law_36 3 rfl rfl)
theorem dL_law_950 : decode cL_law 950 = .ok (.iaload, 1) := dk_46 (dk_at dksL_law_36 4 rfl rfl)
theorem dL_law_951 : decode cL_law 951 = .ok (.aload_n 3, 1) := dk_45 (dk_at dksL_law_36 5 rfl rfl)
theorem dL_law_952 : decode cL_law 952 = .ok (.invokestatic 136, 3) := dk_184 0 136 (dk_at dksL_law_36 6 rfl rfl)
theorem dL_law_955 : decode cL_law 955 = .ok (.istore 5, 2) := dk_54 5 (dk_at dksL_law_36 9 rfl rfl)
theorem dL_law_957 : decode cL_law 957 = .ok (.aload_n 2, 1) := dk_44 (dk_at dksL_law_36 11 rfl rfl)
theorem dL_law_958 : decode cL_law 958 = .ok (.aload_n 0, 1) := dk_42 (dk_at dksL_law_36 12 rfl rfl)
theorem dL_law_959 : decode cL_law 959 = .ok (.iload 4, 2) := dk_21 4 (dk_at dksL_law_36 13 rfl rfl)
theorem dL_law_961 : decode cL_law 961 = .ok (.iconst 1, 1) := dk_4 (dk_at dksL_law_36 15 rfl rfl)
theorem dL_law_962 : decode cL_law 962 = .ok (.iadd, 1) := dk_96 (dk_at dksL_law_36 16 rfl rfl)
theorem dL_law_963 : decode cL_law 963 = .ok (.iaload, 1) := dk_46 (dk_at dksL_law_36 17 rfl rfl)
theorem dL_law_964 : decode cL_law 964 = .ok (.aload_n 0, 1) := dk_42 (dk_at dksL_law_36 18 rfl rfl)
theorem dL_law_965 : decode cL_law 965 = .ok (.iload 4, 2) := dk_21 4 (dk_at dksL_law_36 19 rfl rfl)
theorem dL_law_967 : decode cL_law 967 = .ok (.iconst 2, 1) := dk_5 (dk_at dksL_law_36 21 rfl rfl)
theorem dL_law_968 : decode cL_law 968 = .ok (.iadd, 1) := dk_96 (dk_at dksL_law_36 22 rfl rfl)
theorem dL_law_969 : decode cL_law 969 = .ok (.iaload, 1) := dk_46 (dk_at dksL_law_36 23 rfl rfl)
theorem dL_law_970 : decode cL_law 970 = .ok (.aload_n 0, 1) := dk_42 (dk_at dksL_law_37 0 rfl rfl)
theorem dL_law_971 : decode cL_law 971 = .ok (.iload 4, 2) := dk_21 4 (dk_at dksL_law_37 1 rfl rfl)
theorem dL_law_973 : decode cL_law 973 = .ok (.iconst 3, 1) := dk_6 (dk_at dksL_law_37 3 rfl rfl)
theorem dL_law_974 : decode cL_law 974 = .ok (.iadd, 1) := dk_96 (dk_at dksL_law_37 4 rfl rfl)
theorem dL_law_975 : decode cL_law 975 = .ok (.iaload, 1) := dk_46 (dk_at dksL_law_37 5 rfl rfl)
theorem dL_law_976 : decode cL_law 976 = .ok (.invokevirtual 139, 3) := dk_182 0 139 (dk_at dksL_law_37 6 rfl rfl)
theorem dL_law_979 : decode cL_law 979 = .ok (.istore 6, 2) := dk_54 6 (dk_at dksL_law_37 9 rfl rfl)
theorem dL_law_981 : decode cL_law 981 = .ok (.aload_n 2, 1) := dk_44 (dk_at dksL_law_37 11 rfl rfl)
theorem dL_law_982 : decode cL_law 982 = .ok (.invokevirtual 109, 3) := dk_182 0 109 (dk_at dksL_law_37 12 rfl rfl)
theorem dL_law_985 : decode cL_law 985 = .ok (.iload 5, 2) := dk_21 5 (dk_at dksL_law_37 15 rfl rfl)
theorem dL_law_987 : decode cL_law 987 = .ok (.if_icmp .eq 5, 3) := dk_159 0 5 (dk_at dksL_law_37 17 rfl rfl)
theorem dL_law_990 : decode cL_law 990 = .ok (.iconst 0, 1) := dk_3 (dk_at dksL_law_37 20 rfl rfl)
theorem dL_law_991 : decode cL_law 991 = .ok (.ireturn, 1) := dk_172 (dk_at dksL_law_37 21 rfl rfl)
theorem dL_law_992 : decode cL_law 992 = .ok (.iload 5, 2) := dk_21 5 (dk_at dksL_law_37 22 rfl rfl)
theorem dL_law_994 : decode cL_law 994 = .ok (.ifCond .ne 15, 3) := dk_154 0 15 (dk_at dksL_law_38 0 rfl rfl)
theorem dL_law_997 : decode cL_law 997 = .ok (.aload_n 3, 1) := dk_45 (dk_at dksL_law_38 3 rfl rfl)
theorem dL_law_998 : decode cL_law 998 = .ok (.iconst 0, 1) := dk_3 (dk_at dksL_law_38 4 rfl rfl)
theorem dL_law_999 : decode cL_law 999 = .ok (.laload, 1) := dk_47 (dk_at dksL_law_38 5 rfl rfl)
theorem dL_law_1000 : decode cL_law 1000 = .ok (.iload 6, 2) := dk_21 6 (dk_at dksL_law_38 6 rfl rfl)
theorem dL_law_1002 : decode cL_law 1002 = .ok (.i2l, 1) := dk_133 (dk_at dksL_law_38 8 rfl rfl)
theorem dL_law_1003 : decode cL_law 1003 = .ok (.lcmp, 1) := dk_148 (dk_at dksL_law_38 9 rfl rfl)
theorem dL_law_1004 : decode cL_law 1004 = .ok (.ifCond .eq 5, 3) := dk_153 0 5 (dk_at dksL_law_38 10 rfl rfl)
theorem dL_law_1007 : decode cL_law 1007 = .ok (.iconst 0, 1) := dk_3 (dk_at dksL_law_38 13 rfl rfl)
theorem dL_law_1008 : decode cL_law 1008 = .ok (.ireturn, 1) := dk_172 (dk_at dksL_law_38 14 rfl rfl)
theorem dL_law_1009 : decode cL_law 1009 = .ok (.goto 1187, 3) := dk_167 4 163 (dk_at dksL_law_38 15 rfl rfl)
theorem dL_law_1012 : decode cL_law 1012 = .ok (.aload_n 1, 1) := dk_43 (dk_at dksL_law_38 18 rfl rfl)
theorem dL_law_1013 : decode cL_law 1013 = .ok (.aload_n 0, 1) := dk_42 (dk_at dksL_law_38 19 rfl rfl)
theorem dL_law_1014 : decode cL_law 1014 = .ok (.iload 4, 2) := dk_21 4 (dk_at dksL_law_38 20 rfl rfl)
theorem dL_law_1016 : decode cL_law 1016 = .ok (.iconst 1, 1) := dk_4 (dk_at dksL_law_38 22 rfl rfl)
theorem dL_law_1017 : decode cL_law 1017 = .ok (.iadd, 1) := dk_96 (dk_at dksL_law_38 23 rfl rfl)
theorem dL_law_1018 : decode cL_law 1018 = .ok (.iaload, 1) := dk_46 (dk_at dksL_law_39 0 rfl rfl)
theorem dL_law_1019 : decode cL_law 1019 = .ok (.aload_n 0, 1) := dk_42 (dk_at dksL_law_39 1 rfl rfl)
theorem dL_law_1020 : decode cL_law 1020 = .ok (.iload 4, 2) := dk_21 4 (dk_at dksL_law_39 2 rfl rfl)
theorem dL_law_1022 : decode cL_law 1022 = .ok (.iconst 2, 1) := dk_5 (dk_at dksL_law_39 4 rfl rfl)
theorem dL_law_1023 : decode cL_law 1023 = .ok (.iadd, 1) := dk_96 (dk_at dksL_law_39 5 rfl rfl)
theorem dL_law_1024 : decode cL_law 1024 = .ok (.iaload, 1) := dk_46 (dk_at dksL_law_39 6 rfl rfl)
theorem dL_law_1025 : decode cL_law 1025 = .ok (.aload_n 0, 1) := dk_42 (dk_at dksL_law_39 7 rfl rfl)
theorem dL_law_1026 : decode cL_law 1026 = .ok (.iload 4, 2) := dk_21 4 (dk_at dksL_law_39 8 rfl rfl)
theorem dL_law_1028 : decode cL_law 1028 = .ok (.iconst 3, 1) := dk_6 (dk_at dksL_law_39 10 rfl rfl)
theorem dL_law_1029 : decode cL_law 1029 = .ok (.iadd, 1) := dk_96 (dk_at dksL_law_39 11 rfl rfl)
theorem dL_law_1030 : decode cL_law 1030 = .ok (.iaload, 1) := dk_46 (dk_at dksL_law_39 12 rfl rfl)
theorem dL_law_1031 : decode cL_law 1031 = .ok (.aload_n 3, 1) := dk_45 (dk_at dksL_law_39 13 rfl rfl)
theorem dL_law_1032 : decode cL_law 1032 = .ok (.invokestatic 140, 3) := dk_184 0 140 (dk_at dksL_law_39 14 rfl rfl)
theorem dL_law_1035 : decode cL_law 1035 = .ok (.istore 5, 2) := dk_54 5 (dk_at dksL_law_39 17 rfl rfl)
theorem dL_law_1037 : decode cL_law 1037 = .ok (.aload_n 2, 1) := dk_44 (dk_at dksL_law_39 19 rfl rfl)
theorem dL_law_1038 : decode cL_law 1038 = .ok (.aload_n 0, 1) := dk_42 (dk_at dksL_law_39 20 rfl rfl)
theorem dL_law_1039 : decode cL_law 1039 = .ok (.iload 4, 2) := dk_21 4 (dk_at dksL_law_39 21 rfl rfl)
theorem dL_law_1041 : decode cL_law 1041 = .ok (.iconst 1, 1) := dk_4 (dk_at dksL_law_39 23 rfl rfl)
theorem dL_law_1042 : decode cL_law 1042 = .ok (.iadd, 1) := dk_96 (dk_at dksL_law_40 0 rfl rfl)
theorem dL_law_1043 : decode cL_law 1043 = .ok (.iaload, 1) := dk_46 (dk_at dksL_law_40 1 rfl rfl)
theorem dL_law_1044 : decode cL_law 1044 = .ok (.aload_n 0, 1) := dk_42 (dk_at dksL_law_40 2 rfl rfl)
theorem dL_law_1045 : decode cL_law 1045 = .ok (.iload 4, 2) := dk_21 4 (dk_at dksL_law_40 3 rfl rfl)
theorem dL_law_1047 : decode cL_law 1047 = .ok (.iconst 2, 1) := dk_5 (dk_at dksL_law_40 5 rfl rfl)
theorem dL_law_1048 : decode cL_law 1048 = .ok (.iadd, 1) := dk_96 (dk_at dksL_law_40 6 rfl rfl)
theorem dL_law_1049 : decode cL_law 1049 = .ok (.iaload, 1) := dk_46 (dk_at dksL_law_40 7 rfl rfl)
theorem dL_law_1050 : decode cL_law 1050 = .ok (.aload_n 0, 1) := dk_42 (dk_at dksL_law_40 8 rfl rfl)
theorem dL_law_1051 : decode cL_law 1051 = .ok (.iload 4, 2) := dk_21 4 (dk_at dksL_law_40 9 rfl rfl)
theorem dL_law_1053 : decode cL_law 1053 = .ok (.iconst 3, 1) := dk_6 (dk_at dksL_law_40 11 rfl rfl)
theorem dL_law_1054 : decode cL_law 1054 = .ok (.iadd, 1) := dk_96 (dk_at dksL_law_40 12 rfl rfl)
theorem dL_law_1055 : decode cL_law 1055 = .ok (.iaload, 1) := dk_46 (dk_at dksL_law_40 13 rfl rfl)
theorem dL_law_1056 : decode cL_law 1056 = .ok (.invokevirtual 142, 3) := dk_182 0 142 (dk_at dksL_law_40 14 rfl rfl)
theorem dL_law_1059 : decode cL_law 1059 = .ok (.istore 6, 2) := dk_54 6 (dk_at dksL_law_40 17 rfl rfl)
theorem dL_law_1061 : decode cL_law 1061 = .ok (.aload_n 2, 1) := dk_44 (dk_at dksL_law_40 19 rfl rfl)
theorem dL_law_1062 : decode cL_law 1062 = .ok (.invokevirtual 109, 3) := dk_182 0 109 (dk_at dksL_law_40 20 rfl rfl)
theorem dL_law_1065 : decode cL_law 1065 = .ok (.iload 5, 2) := dk_21 5 (dk_at dksL_law_41 0 rfl rfl)
theorem dL_law_1067 : decode cL_law 1067 = .ok (.if_icmp .eq 5, 3) := dk_159 0 5 (dk_at dksL_law_41 2 rfl rfl)
theorem dL_law_1070 : decode cL_law 1070 = .ok (.iconst 0, 1) := dk_3 (dk_at dksL_law_41 5 rfl rfl)
theorem dL_law_1071 : decode cL_law 1071 = .ok (.ireturn, 1) := dk_172 (dk_at dksL_law_41 6 rfl rfl)
theorem dL_law_1072 : decode cL_law 1072 = .ok (.iload 5, 2) := dk_21 5 (dk_at dksL_law_41 7 rfl rfl)
theorem dL_law_1074 : decode cL_law 1074 = .ok (.ifCond .ne 15, 3) := dk_154 0 15 (dk_at dksL_law_41 9 rfl rfl)
theorem dL_law_1077 : decode cL_law 1077 = .ok (.aload_n 3, 1) := dk_45 (dk_at dksL_law_41 12 rfl rfl)
theorem dL_law_1078 : decode cL_law 1078 = .ok (.iconst 0, 1) := dk_3 (dk_at dksL_law_41 13 rfl rfl)
theorem dL_law_1079 : decode cL_law 1079 = .ok (.laload, 1) := dk_47 (dk_at dksL_law_41 14 rfl rfl)
theorem dL_law_1080 : decode cL_law 1080 = .ok (.iload 6, 2) := dk_21 6 (dk_at dksL_law_41 15 rfl rfl)
theorem dL_law_1082 : decode cL_law 1082 = .ok (.i2l, 1) := dk_133 (dk_at dksL_law_41 17 rfl rfl)
theorem dL_law_1083 : decode cL_law 1083 = .ok (.lcmp, 1) := dk_148 (dk_at dksL_law_41 18 rfl rfl)
theorem dL_law_1084 : decode cL_law 1084 = .ok (.ifCond .eq 5, 3) := dk_153 0 5 (dk_at dksL_law_41 19 rfl rfl)
theorem dL_law_1087 : decode cL_law 1087 = .ok (.iconst 0, 1) := dk_3 (dk_at dksL_law_41 22 rfl rfl)
theorem dL_law_1088 : decode cL_law 1088 = .ok (.ireturn, 1) := dk_172 (dk_at dksL_law_41 23 rfl rfl)
theorem dL_law_1089 : decode cL_law 1089 = .ok (.goto 1107, 3) := dk_167 4 83 (dk_at dksL_law_42 0 rfl rfl)
theorem dL_law_1092 : decode cL_law 1092 = .ok (.aload_n 1, 1) := dk_43 (dk_at dksL_law_42 3 rfl rfl)
theorem dL_law_1093 : decode cL_law 1093 = .ok (.aload_n 0, 1) := dk_42 (dk_at dksL_law_42 4 rfl rfl)
theorem dL_law_1094 : decode cL_law 1094 = .ok (.iload 4, 2) := dk_21 4 (dk_at dksL_law_42 5 rfl rfl)
theorem dL_law_1096 : decode cL_law 1096 = .ok (.iconst 1, 1) := dk_4 (dk_at dksL_law_42 7 rfl rfl)
theorem dL_law_1097 : decode cL_law 1097 = .ok (.iadd, 1) := dk_96 (dk_at dksL_law_42 8 rfl rfl)
theorem dL_law_1098 : decode cL_law 1098 = .ok (.iaload, 1) := dk_46 (dk_at dksL_law_42 9 rfl rfl)
theorem dL_law_1099 : decode cL_law 1099 = .ok (.aload_n 0, 1) := dk_42 (dk_at dksL_law_42 10 rfl rfl)
theorem dL_law_1100 : decode cL_law 1100 = .ok (.iload 4, 2) := dk_21 4 (dk_at dksL_law_42 11 rfl rfl)
theorem dL_law_1102 : decode cL_law 1102 = .ok (.iconst 2, 1) := dk_5 (dk_at dksL_law_42 13 rfl rfl)
theorem dL_law_1103 : decode cL_law 1103 = .ok (.iadd, 1) := dk_96 (dk_at dksL_law_42 14 rfl rfl)
theorem dL_law_1104 : decode cL_law 1104 = .ok (.iaload, 1) := dk_46 (dk_at dksL_law_42 15 rfl rfl)
theorem dL_law_1105 : decode cL_law 1105 = .ok (.aload_n 0, 1) := dk_42 (dk_at dksL_law_42 16 rfl rfl)
theorem dL_law_1106 : decode cL_law 1106 = .ok (.iload 4, 2) := dk_21 4 (dk_at dksL_law_42 17 rfl rfl)
theorem dL_law_1108 : decode cL_law 1108 = .ok (.iconst 3, 1) := dk_6 (dk_at dksL_law_42 19 rfl rfl)
theorem dL_law_1109 : decode cL_law 1109 = .ok (.iadd, 1) := dk_96 (dk_at dksL_law_42 20 rfl rfl)
theorem dL_law_1110 : decode cL_law 1110 = .ok (.iaload, 1) := dk_46 (dk_at dksL_law_42 21 rfl rfl)
theorem dL_law_1111 : decode cL_law 1111 = .ok (.aload_n 0, 1) := dk_42 (dk_at dksL_law_42 22 rfl rfl)
theorem dL_law_1112 : decode cL_law 1112 = .ok (.iload 4, 2) := dk_21 4 (dk_at dksL_law_43 0 rfl rfl)
theorem dL_law_1114 : decode cL_law 1114 = .ok (.iconst 4, 1) := dk_7 (dk_at dksL_law_43 2 rfl rfl)
theorem dL_law_1115 : decode cL_law 1115 = .ok (.iadd, 1) := dk_96 (dk_at dksL_law_43 3 rfl rfl)
theorem dL_law_1116 : decode cL_law 1116 = .ok (.iaload, 1) := dk_46 (dk_at dksL_law_43 4 rfl rfl)
theorem dL_law_1117 : decode cL_law 1117 = .ok (.aload_n 3, 1) := dk_45 (dk_at dksL_law_43 5 rfl rfl)
theorem dL_law_1118 : decode cL_law 1118 = .ok (.invokestatic 143, 3) := dk_184 0 143 (dk_at dksL_law_43 6 rfl rfl)
theorem dL_law_1121 : decode cL_law 1121 = .ok (.istore 5, 2) := dk_54 5 (dk_at dksL_law_43 9 rfl rfl)
theorem dL_law_1123 : decode cL_law 1123 = .ok (.aload_n 2, 1) := dk_44 (dk_at dksL_law_43 11 rfl rfl)
theorem dL_law_1124 : decode cL_law 1124 = .ok (.aload_n 0, 1) := dk_42 (dk_at dksL_law_43 12 rfl rfl)
theorem dL_law_1125 : decode cL_law 1125 = .ok (.iload 4, 2) := dk_21 4 (dk_at dksL_law_43 13 rfl rfl)
theorem dL_law_1127 : decode cL_law 1127 = .ok (.iconst 1, 1) := dk_4 (dk_at dksL_law_43 15 rfl rfl)
theorem dL_law_1128 : decode cL_law 1128 = .ok (.iadd, 1) := dk_96 (dk_at dksL_law_43 16 rfl rfl)
theorem dL_law_1129 : decode cL_law 1129 = .ok (.iaload, 1) := dk_46 (dk_at dksL_law_43 17 rfl rfl)
theorem dL_law_1130 : decode cL_law 1130 = .ok (.aload_n 0, 1) := dk_42 (dk_at dksL_law_43 18 rfl rfl)
theorem dL_law_1131 : decode cL_law 1131 = .ok (.iload 4, 2) := dk_21 4 (dk_at dksL_law_43 19 rfl rfl)
theorem dL_law_1133 : decode cL_law 1133 = .ok (.iconst 2, 1) := dk_5 (dk_at dksL_law_43 21 rfl rfl)
theorem dL_law_1134 : decode cL_law 1134 = .ok (.iadd, 1) := dk_96 (dk_at dksL_law_43 22 rfl rfl)
theorem dL_law_1135 : decode cL_law 1135 = .ok (.iaload, 1) := dk_46 (dk_at dksL_law_43 23 rfl rfl)
theorem dL_law_1136 : decode cL_law 1136 = .ok (.aload_n 0, 1) := dk_42 (dk_at dksL_law_44 0 rfl rfl)
theorem dL_law_1137 : decode cL_law 1137 = .ok (.iload 4, 2) := dk_21 4 (dk_at dksL_law_44 1 rfl rfl)
theorem dL_law_1139 : decode cL_law 1139 = .ok (.iconst 3, 1) := dk_6 (dk_at dksL_law_44 3 rfl rfl)
theorem dL_law_1140 : decode cL_law 1140 = .ok (.iadd, 1) := dk_96 (dk_at dksL_law_44 4 rfl rfl)
theorem dL_law_1141 : decode cL_law 1141 = .ok (.iaload, 1) := dk_46 (dk_at dksL_law_44 5 rfl rfl)
theorem dL_law_1142 : decode cL_law 1142 = .ok (.aload_n 0, 1) := dk_42 (dk_at dksL_law_44 6 rfl rfl)
theorem dL_law_1143 : decode cL_law 1143 = .ok (.iload 4, 2) := dk_21 4 (dk_at dksL_law_44 7 rfl rfl)
theorem dL_law_1145 : decode cL_law 1145 = .ok (.iconst 4, 1) := dk_7 (dk_at dksL_law_44 9 rfl rfl)
theorem dL_law_1146 : decode cL_law 1146 = .ok (.iadd, 1) := dk_96 (dk_at dksL_law_44 10 rfl rfl)
theorem dL_law_1147 : decode cL_law 1147 = .ok (.iaload, 1) := dk_46 (dk_at dksL_law_44 11 rfl rfl)
theorem dL_law_1148 : decode cL_law 1148 = .ok (.invokevirtual 145, 3) := dk_182 0 145 (dk_at dksL_law_44 12 rfl rfl)
theorem dL_law_1151 : decode cL_law 1151 = .ok (.istore 6, 2) := dk_54 6 (dk_at dksL_law_44 15 rfl rfl)
theorem dL_law_1153 : decode cL_law 1153 = .ok (.aload_n 2, 1) := dk_44 (dk_at dksL_law_44 17 rfl rfl)
theorem dL_law_1154 : decode cL_law 1154 = .ok (.invokevirtual 109, 3) := dk_182 0 109 (dk_at dksL_law_44 18 rfl rfl)
theorem dL_law_1157 : decode cL_law 1157 = .ok (.iload 5, 2) := dk_21 5 (dk_at dksL_law_44 21 rfl rfl)
theorem dL_law_1159 : decode cL_law 1159 = .ok (.if_icmp .eq 5, 3) := dk_159 0 5 (dk_at dksL_law_45 0 rfl rfl)
theorem dL_law_1162 : decode cL_law 1162 = .ok (.iconst 0, 1) := dk_3 (dk_at dksL_law_45 3 rfl rfl)
theorem dL_law_1163 : decode cL_law 1163 = .ok (.ireturn, 1) := dk_172 (dk_at dksL_law_45 4 rfl rfl)
theorem dL_law_1164 : decode cL_law 1164 = .ok (.iload 5, 2) := dk_21 5 (dk_at dksL_law_45 5 rfl rfl)
theorem dL_law_1166 : decode cL_law 1166 = .ok (.ifCond .ne 15, 3) := dk_154 0 15 (dk_at dksL_law_45 7 rfl rfl)
theorem dL_law_1169 : decode cL_law 1169 = .ok (.aload_n 3, 1) := dk_45 (dk_at dksL_law_45 10 rfl rfl)
theorem dL_law_1170 : decode cL_law 1170 = .ok (.iconst 0, 1) := dk_3 (dk_at dksL_law_45 11 rfl rfl)
theorem dL_law_1171 : decode cL_law 1171 = .ok (.laload, 1) := dk_47 (dk_at dksL_law_45 12 rfl rfl)
theorem dL_law_1172 : decode cL_law 1172 = .ok (.iload 6, 2) := dk_21 6 (dk_at dksL_law_45 13 rfl rfl)
theorem dL_law_1174 : decode cL_law 1174 = .ok (.i2l, 1) := dk_133 (dk_at dksL_law_45 15 rfl rfl)
theorem dL_law_1175 : decode cL_law 1175 = .ok (.lcmp, 1) := dk_148 (dk_at dksL_law_45 16 rfl rfl)
theorem dL_law_1176 : decode cL_law 1176 = .ok (.ifCond .eq 5, 3) := dk_153 0 5 (dk_at dksL_law_45 17 rfl rfl)
theorem dL_law_1179 : decode cL_law 1179 = .ok (.iconst 0, 1) := dk_3 (dk_at dksL_law_45 20 rfl rfl)
theorem dL_law_1180 : decode cL_law 1180 = .ok (.ireturn, 1) := dk_172 (dk_at dksL_law_45 21 rfl rfl)
theorem dL_law_1181 : decode cL_law 1181 = .ok (.goto 1015, 3) := dk_167 3 247 (dk_at dksL_law_46 0 rfl rfl)
theorem dL_law_1184 : decode cL_law 1184 = .ok (.aload_n 1, 1) := dk_43 (dk_at dksL_law_46 3 rfl rfl)
theorem dL_law_1185 : decode cL_law 1185 = .ok (.aload_n 0, 1) := dk_42 (dk_at dksL_law_46 4 rfl rfl)
theorem dL_law_1186 : decode cL_law 1186 = .ok (.iload 4, 2) := dk_21 4 (dk_at dksL_law_46 5 rfl rfl)
theorem dL_law_1188 : decode cL_law 1188 = .ok (.iconst 1, 1) := dk_4 (dk_at dksL_law_46 7 rfl rfl)
theorem dL_law_1189 : decode cL_law 1189 = .ok (.iadd, 1) := dk_96 (dk_at dksL_law_46 8 rfl rfl)
theorem dL_law_1190 : decode cL_law 1190 = .ok (.iaload, 1) := dk_46 (dk_at dksL_law_46 9 rfl rfl)
theorem dL_law_1191 : decode cL_law 1191 = .ok (.aload_n 0, 1) := dk_42 (dk_at dksL_law_46 10 rfl rfl)
theorem dL_law_1192 : decode cL_law 1192 = .ok (.iload 4, 2) := dk_21 4 (dk_at dksL_law_46 11 rfl rfl)
theorem dL_law_1194 : decode cL_law 1194 = .ok (.iconst 2, 1) := dk_5 (dk_at dksL_law_46 13 rfl rfl)
theorem dL_law_1195 : decode cL_law 1195 = .ok (.iadd, 1) := dk_96 (dk_at dksL_law_46 14 rfl rfl)
theorem dL_law_1196 : decode cL_law 1196 = .ok (.iaload, 1) := dk_46 (dk_at dksL_law_46 15 rfl rfl)
theorem dL_law_1197 : decode cL_law 1197 = .ok (.aload_n 0, 1) := dk_42 (dk_at dksL_law_46 16 rfl rfl)
theorem dL_law_1198 : decode cL_law 1198 = .ok (.iload 4, 2) := dk_21 4 (dk_at dksL_law_46 17 rfl rfl)
theorem dL_law_1200 : decode cL_law 1200 = .ok (.iconst 3, 1) := dk_6 (dk_at dksL_law_46 19 rfl rfl)
theorem dL_law_1201 : decode cL_law 1201 = .ok (.iadd, 1) := dk_96 (dk_at dksL_law_46 20 rfl rfl)
theorem dL_law_1202 : decode cL_law 1202 = .ok (.iaload, 1) := dk_46 (dk_at dksL_law_46 21 rfl rfl)
theorem dL_law_1203 : decode cL_law 1203 = .ok (.aload_n 3, 1) := dk_45 (dk_at dksL_law_46 22 rfl rfl)
theorem dL_law_1204 : decode cL_law 1204 = .ok (.invokestatic 146, 3) := dk_184 0 146 (dk_at dksL_law_47 0 rfl rfl)
theorem dL_law_1207 : decode cL_law 1207 = .ok (.istore 5, 2) := dk_54 5 (dk_at dksL_law_47 3 rfl rfl)
theorem dL_law_1209 : decode cL_law 1209 = .ok (.aload_n 2, 1) := dk_44 (dk_at dksL_law_47 5 rfl rfl)
theorem dL_law_1210 : decode cL_law 1210 = .ok (.aload_n 0, 1) := dk_42 (dk_at dksL_law_47 6 rfl rfl)
theorem dL_law_1211 : decode cL_law 1211 = .ok (.iload 4, 2) := dk_21 4 (dk_at dksL_law_47 7 rfl rfl)
theorem dL_law_1213 : decode cL_law 1213 = .ok (.iconst 1, 1) := dk_4 (dk_at dksL_law_47 9 rfl rfl)
theorem dL_law_1214 : decode cL_law 1214 = .ok (.iadd, 1) := dk_96 (dk_at dksL_law_47 10 rfl rfl)
theorem dL_law_1215 : decode cL_law 1215 = .ok (.iaload, 1) := dk_46 (dk_at dksL_law_47 11 rfl rfl)
theorem dL_law_1216 : decode cL_law 1216 = .ok (.aload_n 0, 1) := dk_42 (dk_at dksL_law_47 12 rfl rfl)
theorem dL_law_1217 : decode cL_law 1217 = .ok (.iload 4, 2) := dk_21 4 (dk_at dksL_law_47 13 rfl rfl)
theorem dL_law_1219 : decode cL_law 1219 = .ok (.iconst 2, 1) := dk_5 (dk_at dksL_law_47 15 rfl rfl)
theorem dL_law_1220 : decode cL_law 1220 = .ok (.iadd, 1) := dk_96 (dk_at dksL_law_47 16 rfl rfl)
theorem dL_law_1221 : decode cL_law 1221 = .ok (.iaload, 1) := dk_46 (dk_at dksL_law_47 17 rfl rfl)
theorem dL_law_1222 : decode cL_law 1222 = .ok (.aload_n 0, 1) := dk_42 (dk_at dksL_law_47 18 rfl rfl)
theorem dL_law_1223 : decode cL_law 1223 = .ok (.iload 4, 2) := dk_21 4 (dk_at dksL_law_47 19 rfl rfl)
theorem dL_law_1225 : decode cL_law 1225 = .ok (.iconst 3, 1) := dk_6 (dk_at dksL_law_47 21 rfl rfl)
theorem dL_law_1226 : decode cL_law 1226 = .ok (.iadd, 1) := dk_96 (dk_at dksL_law_47 22 rfl rfl)
theorem dL_law_1227 : decode cL_law 1227 = .ok (.iaload, 1) := dk_46 (dk_at dksL_law_47 23 rfl rfl)
theorem dL_law_1228 : decode cL_law 1228 = .ok (.invokevirtual 148, 3) := dk_182 0 148 (dk_at dksL_law_48 0 rfl rfl)
theorem dL_law_1231 : decode cL_law 1231 = .ok (.istore 6, 2) := dk_54 6 (dk_at dksL_law_48 3 rfl rfl)
theorem dL_law_1233 : decode cL_law 1233 = .ok (.aload_n 2, 1) := dk_44 (dk_at dksL_law_48 5 rfl rfl)
theorem dL_law_1234 : decode cL_law 1234 = .ok (.invokevirtual 109, 3) := dk_182 0 109 (dk_at dksL_law_48 6 rfl rfl)
theorem dL_law_1237 : decode cL_law 1237 = .ok (.iload 5, 2) := dk_21 5 (dk_at dksL_law_48 9 rfl rfl)
theorem dL_law_1239 : decode cL_law 1239 = .ok (.if_icmp .eq 5, 3) := dk_159 0 5 (dk_at dksL_law_48 11 rfl rfl)
theorem dL_law_1242 : decode cL_law 1242 = .ok (.iconst 0, 1) := dk_3 (dk_at dksL_law_48 14 rfl rfl)
theorem dL_law_1243 : decode cL_law 1243 = .ok (.ireturn, 1) := dk_172 (dk_at dksL_law_48 15 rfl rfl)
theorem dL_law_1244 : decode cL_law 1244 = .ok (.iload 5, 2) := dk_21 5 (dk_at dksL_law_48 16 rfl rfl)
theorem dL_law_1246 : decode cL_law 1246 = .ok (.ifCond .ne 15, 3) := dk_154 0 15 (dk_at dksL_law_48 18 rfl rfl)
theorem dL_law_1249 : decode cL_law 1249 = .ok (.aload_n 3, 1) := dk_45 (dk_at dksL_law_48 21 rfl rfl)
theorem dL_law_1250 : decode cL_law 1250 = .ok (.iconst 0, 1) := dk_3 (dk_at dksL_law_48 22 rfl rfl)
theorem dL_law_1251 : decode cL_law 1251 = .ok (.laload, 1) := dk_47 (dk_at dksL_law_48 23 rfl rfl)
theorem dL_law_1252 : decode cL_law 1252 = .ok (.iload 6, 2) := dk_21 6 (dk_at dksL_law_49 0 rfl rfl)
theorem dL_law_1254 : decode cL_law 1254 = .ok (.i2l, 1) := dk_133 (dk_at dksL_law_49 2 rfl rfl)
theorem dL_law_1255 : decode cL_law 1255 = .ok (.lcmp, 1) := dk_148 (dk_at dksL_law_49 3 rfl rfl)
theorem dL_law_1256 : decode cL_law 1256 = .ok (.ifCond .eq 5, 3) := dk_153 0 5 (dk_at dksL_law_49 4 rfl rfl)
theorem dL_law_1259 : decode cL_law 1259 = .ok (.iconst 0, 1) := dk_3 (dk_at dksL_law_49 7 rfl rfl)
theorem dL_law_1260 : decode cL_law 1260 = .ok (.ireturn, 1) := dk_172 (dk_at dksL_law_49 8 rfl rfl)
theorem dL_law_1261 : decode cL_law 1261 = .ok (.goto 935, 3) := dk_167 3 167 (dk_at dksL_law_49 9 rfl rfl)
theorem dL_law_1264 : decode cL_law 1264 = .ok (.aload_n 1, 1) := dk_43 (dk_at dksL_law_49 12 rfl rfl)
theorem dL_law_1265 : decode cL_law 1265 = .ok (.aload_n 0, 1) := dk_42 (dk_at dksL_law_49 13 rfl rfl)
theorem dL_law_1266 : decode cL_law 1266 = .ok (.iload 4, 2) := dk_21 4 (dk_at dksL_law_49 14 rfl rfl)
theorem dL_law_1268 : decode cL_law 1268 = .ok (.iconst 1, 1) := dk_4 (dk_at dksL_law_49 16 rfl rfl)
theorem dL_law_1269 : decode cL_law 1269 = .ok (.iadd, 1) := dk_96 (dk_at dksL_law_49 17 rfl rfl)
theorem dL_law_1270 : decode cL_law 1270 = .ok (.iaload, 1) := dk_46 (dk_at dksL_law_49 18 rfl rfl)
theorem dL_law_1271 : decode cL_law 1271 = .ok (.aload_n 0, 1) := dk_42 (dk_at dksL_law_49 19 rfl rfl)
theorem dL_law_1272 : decode cL_law 1272 = .ok (.iload 4, 2) := dk_21 4 (dk_at dksL_law_49 20 rfl rfl)
theorem dL_law_1274 : decode cL_law 1274 = .ok (.iconst 2, 1) := dk_5 (dk_at dksL_law_49 22 rfl rfl)
theorem dL_law_1275 : decode cL_law 1275 = .ok (.iadd, 1) := dk_96 (dk_at dksL_law_49 23 rfl rfl)
theorem dL_law_1276 : decode cL_law 1276 = .ok (.iaload, 1) := dk_46 (dk_at dksL_law_50 0 rfl rfl)
theorem dL_law_1277 : decode cL_law 1277 = .ok (.aload_n 0, 1) := dk_42 (dk_at dksL_law_50 1 rfl rfl)
theorem dL_law_1278 : decode cL_law 1278 = .ok (.iload 4, 2) := dk_21 4 (dk_at dksL_law_50 2 rfl rfl)
theorem dL_law_1280 : decode cL_law 1280 = .ok (.iconst 3, 1) := dk_6 (dk_at dksL_law_50 4 rfl rfl)
theorem dL_law_1281 : decode cL_law 1281 = .ok (.iadd, 1) := dk_96 (dk_at dksL_law_50 5 rfl rfl)
theorem dL_law_1282 : decode cL_law 1282 = .ok (.iaload, 1) := dk_46 (dk_at dksL_law_50 6 rfl rfl)
theorem dL_law_1283 : decode cL_law 1283 = .ok (.aload_n 3, 1) := dk_45 (dk_at dksL_law_50 7 rfl rfl)
theorem dL_law_1284 : decode cL_law 1284 = .ok (.invokestatic 149, 3) := dk_184 0 149 (dk_at dksL_law_50 8 rfl rfl)
theorem dL_law_1287 : decode cL_law 1287 = .ok (.istore 5, 2) := dk_54 5 (dk_at dksL_law_50 11 rfl rfl)
theorem dL_law_1289 : decode cL_law 1289 = .ok (.aload_n 2, 1) := dk_44 (dk_at dksL_law_50 13 rfl rfl)
theorem dL_law_1290 : decode cL_law 1290 = .ok (.aload_n 0, 1) := dk_42 (dk_at dksL_law_50 14 rfl rfl)
theorem dL_law_1291 : decode cL_law 1291 = .ok (.iload 4, 2) := dk_21 4 (dk_at dksL_law_50 15 rfl rfl)
theorem dL_law_1293 : decode cL_law 1293 = .ok (.iconst 1, 1) := dk_4 (dk_at dksL_law_50 17 rfl rfl)
theorem dL_law_1294 : decode cL_law 1294 = .ok (.iadd, 1) := dk_96 (dk_at dksL_law_50 18 rfl rfl)
theorem dL_law_1295 : decode cL_law 1295 = .ok (.iaload, 1) := dk_46 (dk_at dksL_law_50 19 rfl rfl)
theorem dL_law_1296 : decode cL_law 1296 = .ok (.aload_n 0, 1) := dk_42 (dk_at dksL_law_50 20 rfl rfl)
theorem dL_law_1297 : decode cL_law 1297 = .ok (.iload 4, 2) := dk_21 4 (dk_at dksL_law_50 21 rfl rfl)
theorem dL_law_1299 : decode cL_law 1299 = .ok (.iconst 2, 1) := dk_5 (dk_at dksL_law_50 23 rfl rfl)
theorem dL_law_1300 : decode cL_law 1300 = .ok (.iadd, 1) := dk_96 (dk_at dksL_law_51 0 rfl rfl)
theorem dL_law_1301 : decode cL_law 1301 = .ok (.iaload, 1) := dk_46 (dk_at dksL_law_51 1 rfl rfl)
theorem dL_law_1302 : decode cL_law 1302 = .ok (.aload_n 0, 1) := dk_42 (dk_at dksL_law_51 2 rfl rfl)
theorem dL_law_1303 : decode cL_law 1303 = .ok (.iload 4, 2) := dk_21 4 (dk_at dksL_law_51 3 rfl rfl)
theorem dL_law_1305 : decode cL_law 1305 = .ok (.iconst 3, 1) := dk_6 (dk_at dksL_law_51 5 rfl rfl)
theorem dL_law_1306 : decode cL_law 1306 = .ok (.iadd, 1) := dk_96 (dk_at dksL_law_51 6 rfl rfl)
theorem dL_law_1307 : decode cL_law 1307 = .ok (.iaload, 1) := dk_46 (dk_at dksL_law_51 7 rfl rfl)
theorem dL_law_1308 : decode cL_law 1308 = .ok (.invokevirtual 151, 3) := dk_182 0 151 (dk_at dksL_law_51 8 rfl rfl)
theorem dL_law_1311 : decode cL_law 1311 = .ok (.istore 6, 2) := dk_54 6 (dk_at dksL_law_51 11 rfl rfl)
theorem dL_law_1313 : decode cL_law 1313 = .ok (.aload_n 2, 1) := dk_44 (dk_at dksL_law_51 13 rfl rfl)
theorem dL_law_1314 : decode cL_law 1314 = .ok (.invokevirtual 109, 3) := dk_182 0 109 (dk_at dksL_law_51 14 rfl rfl)
theorem dL_law_1317 : decode cL_law 1317 = .ok (.iload 5, 2) := dk_21 5 (dk_at dksL_law_51 17 rfl rfl)
theorem dL_law_1319 : decode cL_law 1319 = .ok (.if_icmp .eq 5, 3) := dk_159 0 5 (dk_at dksL_law_51 19 rfl rfl)
theorem dL_law_1322 : decode cL_law 1322 = .ok (.iconst 0, 1) := dk_3 (dk_at dksL_law_51 22 rfl rfl)
theorem dL_law_1323 : decode cL_law 1323 = .ok (.ireturn, 1) := dk_172 (dk_at dksL_law_51 23 rfl rfl)
theorem dL_law_1324 : decode cL_law 1324 = .ok (.iload 5, 2) := dk_21 5 (dk_at dksL_law_52 0 rfl rfl)
theorem dL_law_1326 : decode cL_law 1326 = .ok (.ifCond .ne 15, 3) := dk_154 0 15 (dk_at dksL_law_52 2 rfl rfl)
theorem dL_law_1329 : decode cL_law 1329 = .ok (.aload_n 3, 1) := dk_45 (dk_at dksL_law_52 5 rfl rfl)
theorem dL_law_1330 : decode cL_law 1330 = .ok (.iconst 0, 1) := dk_3 (dk_at dksL_law_52 6 rfl rfl)
theorem dL_law_1331 : decode cL_law 1331 = .ok (.laload, 1) := dk_47 (dk_at dksL_law_52 7 rfl rfl)
theorem dL_law_1332 : decode cL_law 1332 = .ok (.iload 6, 2) := dk_21 6 (dk_at dksL_law_52 8 rfl rfl)
theorem dL_law_1334 : decode cL_law 1334 = .ok (.i2l, 1) := dk_133 (dk_at dksL_law_52 10 rfl rfl)
theorem dL_law_1335 : decode cL_law 1335 = .ok (.lcmp, 1) := dk_148 (dk_at dksL_law_52 11 rfl rfl)
theorem dL_law_1336 : decode cL_law 1336 = .ok (.ifCond .eq 5, 3) := dk_153 0 5 (dk_at dksL_law_52 12 rfl rfl)
theorem dL_law_1339 : decode cL_law 1339 = .ok (.iconst 0, 1) := dk_3 (dk_at dksL_law_52 15 rfl rfl)
theorem dL_law_1340 : decode cL_law 1340 = .ok (.ireturn, 1) := dk_172 (dk_at dksL_law_52 16 rfl rfl)
theorem dL_law_1341 : decode cL_law 1341 = .ok (.goto 855, 3) := dk_167 3 87 (dk_at dksL_law_52 17 rfl rfl)
theorem dL_law_1344 : decode cL_law 1344 = .ok (.aload_n 1, 1) := dk_43 (dk_at dksL_law_52 20 rfl rfl)
theorem dL_law_1345 : decode cL_law 1345 = .ok (.aload_n 0, 1) := dk_42 (dk_at dksL_law_52 21 rfl rfl)
theorem dL_law_1346 : decode cL_law 1346 = .ok (.iload 4, 2) := dk_21 4 (dk_at dksL_law_52 22 rfl rfl)
theorem dL_law_1348 : decode cL_law 1348 = .ok (.iconst 1, 1) := dk_4 (dk_at dksL_law_53 0 rfl rfl)
theorem dL_law_1349 : decode cL_law 1349 = .ok (.iadd, 1) := dk_96 (dk_at dksL_law_53 1 rfl rfl)
theorem dL_law_1350 : decode cL_law 1350 = .ok (.iaload, 1) := dk_46 (dk_at dksL_law_53 2 rfl rfl)
theorem dL_law_1351 : decode cL_law 1351 = .ok (.aload_n 0, 1) := dk_42 (dk_at dksL_law_53 3 rfl rfl)
theorem dL_law_1352 : decode cL_law 1352 = .ok (.iload 4, 2) := dk_21 4 (dk_at dksL_law_53 4 rfl rfl)
theorem dL_law_1354 : decode cL_law 1354 = .ok (.iconst 2, 1) := dk_5 (dk_at dksL_law_53 6 rfl rfl)
theorem dL_law_1355 : decode cL_law 1355 = .ok (.iadd, 1) := dk_96 (dk_at dksL_law_53 7 rfl rfl)
theorem dL_law_1356 : decode cL_law 1356 = .ok (.iaload, 1) := dk_46 (dk_at dksL_law_53 8 rfl rfl)
theorem dL_law_1357 : decode cL_law 1357 = .ok (.aload_n 0, 1) := dk_42 (dk_at dksL_law_53 9 rfl rfl)
theorem dL_law_1358 : decode cL_law 1358 = .ok (.iload 4, 2) := dk_21 4 (dk_at dksL_law_53 10 rfl rfl)
theorem dL_law_1360 : decode cL_law 1360 = .ok (.iconst 3, 1) := dk_6 (dk_at dksL_law_53 12 rfl rfl)
theorem dL_law_1361 : decode cL_law 1361 = .ok (.iadd, 1) := dk_96 (dk_at dksL_law_53 13 rfl rfl)
theorem dL_law_1362 : decode cL_law 1362 = .ok (.iaload, 1) := dk_46 (dk_at dksL_law_53 14 rfl rfl)
theorem dL_law_1363 : decode cL_law 1363 = .ok (.aload_n 3, 1) := dk_45 (dk_at dksL_law_53 15 rfl rfl)
theorem dL_law_1364 : decode cL_law 1364 = .ok (.invokestatic 152, 3) := dk_184 0 152 (dk_at dksL_law_53 16 rfl rfl)
theorem dL_law_1367 : decode cL_law 1367 = .ok (.istore 5, 2) := dk_54 5 (dk_at dksL_law_53 19 rfl rfl)
theorem dL_law_1369 : decode cL_law 1369 = .ok (.aload_n 2, 1) := dk_44 (dk_at dksL_law_53 21 rfl rfl)
theorem dL_law_1370 : decode cL_law 1370 = .ok (.aload_n 0, 1) := dk_42 (dk_at dksL_law_53 22 rfl rfl)
theorem dL_law_1371 : decode cL_law 1371 = .ok (.iload 4, 2) := dk_21 4 (dk_at dksL_law_54 0 rfl rfl)
theorem dL_law_1373 : decode cL_law 1373 = .ok (.iconst 1, 1) := dk_4 (dk_at dksL_law_54 2 rfl rfl)
theorem dL_law_1374 : decode cL_law 1374 = .ok (.iadd, 1) := dk_96 (dk_at dksL_law_54 3 rfl rfl)
theorem dL_law_1375 : decode cL_law 1375 = .ok (.iaload, 1) := dk_46 (dk_at dksL_law_54 4 rfl rfl)
theorem dL_law_1376 : decode cL_law 1376 = .ok (.aload_n 0, 1) := dk_42 (dk_at dksL_law_54 5 rfl rfl)
theorem dL_law_1377 : decode cL_law 1377 = .ok (.iload 4, 2) := dk_21 4 (dk_at dksL_law_54 6 rfl rfl)
theorem dL_law_1379 : decode cL_law 1379 = .ok (.iconst 2, 1) := dk_5 (dk_at dksL_law_54 8 rfl rfl)
theorem dL_law_1380 : decode cL_law 1380 = .ok (.iadd, 1) := dk_96 (dk_at dksL_law_54 9 rfl rfl)
theorem dL_law_1381 : decode cL_law 1381 = .ok (.iaload, 1) := dk_46 (dk_at dksL_law_54 10 rfl rfl)
theorem dL_law_1382 : decode cL_law 1382 = .ok (.aload_n 0, 1) := dk_42 (dk_at dksL_law_54 11 rfl rfl)
theorem dL_law_1383 : decode cL_law 1383 = .ok (.iload 4, 2) := dk_21 4 (dk_at dksL_law_54 12 rfl rfl)
theorem dL_law_1385 : decode cL_law 1385 = .ok (.iconst 3, 1) := dk_6 (dk_at dksL_law_54 14 rfl rfl)
theorem dL_law_1386 : decode cL_law 1386 = .ok (.iadd, 1) := dk_96 (dk_at dksL_law_54 15 rfl rfl)
theorem dL_law_1387 : decode cL_law 1387 = .ok (.iaload, 1) := dk_46 (dk_at dksL_law_54 16 rfl rfl)
theorem dL_law_1388 : decode cL_law 1388 = .ok (.invokevirtual 154, 3) := dk_182 0 154 (dk_at dksL_law_54 17 rfl rfl)
theorem dL_law_1391 : decode cL_law 1391 = .ok (.istore 6, 2) := dk_54 6 (dk_at dksL_law_54 20 rfl rfl)
theorem dL_law_1393 : decode cL_law 1393 = .ok (.aload_n 2, 1) := dk_44 (dk_at dksL_law_54 22 rfl rfl)
theorem dL_law_1394 : decode cL_law 1394 = .ok (.invokevirtual 109, 3) := dk_182 0 109 (dk_at dksL_law_55 0 rfl rfl)
theorem dL_law_1397 : decode cL_law 1397 = .ok (.iload 5, 2) := dk_21 5 (dk_at dksL_law_55 3 rfl rfl)
theorem dL_law_1399 : decode cL_law 1399 = .ok (.if_icmp .eq 5, 3) := dk_159 0 5 (dk_at dksL_law_55 5 rfl rfl)
theorem dL_law_1402 : decode cL_law 1402 = .ok (.iconst 0, 1) := dk_3 (dk_at dksL_law_55 8 rfl rfl)
theorem dL_law_1403 : decode cL_law 1403 = .ok (.ireturn, 1) := dk_172 (dk_at dksL_law_55 9 rfl rfl)
theorem dL_law_1404 : decode cL_law 1404 = .ok (.iload 5, 2) := dk_21 5 (dk_at dksL_law_55 10 rfl rfl)
theorem dL_law_1406 : decode cL_law 1406 = .ok (.ifCond .ne 15, 3) := dk_154 0 15 (dk_at dksL_law_55 12 rfl rfl)
theorem dL_law_1409 : decode cL_law 1409 = .ok (.aload_n 3, 1) := dk_45 (dk_at dksL_law_55 15 rfl rfl)
theorem dL_law_1410 : decode cL_law 1410 = .ok (.iconst 0, 1) := dk_3 (dk_at dksL_law_55 16 rfl rfl)
theorem dL_law_1411 : decode cL_law 1411 = .ok (.laload, 1) := dk_47 (dk_at dksL_law_55 17 rfl rfl)
theorem dL_law_1412 : decode cL_law 1412 = .ok (.iload 6, 2) := dk_21 6 (dk_at dksL_law_55 18 rfl rfl)
theorem dL_law_1414 : decode cL_law 1414 = .ok (.i2l, 1) := dk_133 (dk_at dksL_law_55 20 rfl rfl)
theorem dL_law_1415 : decode cL_law 1415 = .ok (.lcmp, 1) := dk_148 (dk_at dksL_law_55 21 rfl rfl)
theorem dL_law_1416 : decode cL_law 1416 = .ok (.ifCond .eq 5, 3) := dk_153 0 5 (dk_at dksL_law_56 0 rfl rfl)
theorem dL_law_1419 : decode cL_law 1419 = .ok (.iconst 0, 1) := dk_3 (dk_at dksL_law_56 3 rfl rfl)
theorem dL_law_1420 : decode cL_law 1420 = .ok (.ireturn, 1) := dk_172 (dk_at dksL_law_56 4 rfl rfl)
theorem dL_law_1421 : decode cL_law 1421 = .ok (.goto 775, 3) := dk_167 3 7 (dk_at dksL_law_56 5 rfl rfl)
theorem dL_law_1424 : decode cL_law 1424 = .ok (.aload_n 1, 1) := dk_43 (dk_at dksL_law_56 8 rfl rfl)
theorem dL_law_1425 : decode cL_law 1425 = .ok (.aload_n 0, 1) := dk_42 (dk_at dksL_law_56 9 rfl rfl)
theorem dL_law_1426 : decode cL_law 1426 = .ok (.iload 4, 2) := dk_21 4 (dk_at dksL_law_56 10 rfl rfl)
theorem dL_law_1428 : decode cL_law 1428 = .ok (.iconst 1, 1) := dk_4 (dk_at dksL_law_56 12 rfl rfl)
theorem dL_law_1429 : decode cL_law 1429 = .ok (.iadd, 1) := dk_96 (dk_at dksL_law_56 13 rfl rfl)
theorem dL_law_1430 : decode cL_law 1430 = .ok (.iaload, 1) := dk_46 (dk_at dksL_law_56 14 rfl rfl)
theorem dL_law_1431 : decode cL_law 1431 = .ok (.aload_n 3, 1) := dk_45 (dk_at dksL_law_56 15 rfl rfl)
theorem dL_law_1432 : decode cL_law 1432 = .ok (.invokestatic 155, 3) := dk_184 0 155 (dk_at dksL_law_56 16 rfl rfl)
theorem dL_law_1435 : decode cL_law 1435 = .ok (.istore 5, 2) := dk_54 5 (dk_at dksL_law_56 19 rfl rfl)
theorem dL_law_1437 : decode cL_law 1437 = .ok (.aload_n 2, 1) := dk_44 (dk_at dksL_law_56 21 rfl rfl)
theorem dL_law_1438 : decode cL_law 1438 = .ok (.aload_n 0, 1) := dk_42 (dk_at dksL_law_56 22 rfl rfl)
theorem dL_law_1439 : decode cL_law 1439 = .ok (.iload 4, 2) := dk_21 4 (dk_at dksL_law_57 0 rfl rfl)
theorem dL_law_1441 : decode cL_law 1441 = .ok (.iconst 1, 1) := dk_4 (dk_at dksL_law_57 2 rfl rfl)
theorem dL_law_1442 : decode cL_law 1442 = .ok (.iadd, 1) := dk_96 (dk_at dksL_law_57 3 rfl rfl)
theorem dL_law_1443 : decode cL_law 1443 = .ok (.iaload, 1) := dk_46 (dk_at dksL_law_57 4 rfl rfl)
theorem dL_law_1444 : decode cL_law 1444 = .ok (.invokevirtual 158, 3) := dk_182 0 158 (dk_at dksL_law_57 5 rfl rfl)
theorem dL_law_1447 : decode cL_law 1447 = .ok (.istore 6, 2) := dk_54 6 (dk_at dksL_law_57 8 rfl rfl)
theorem dL_law_1449 : decode cL_law 1449 = .ok (.aload_n 2, 1) := dk_44 (dk_at dksL_law_57 10 rfl rfl)
theorem dL_law_1450 : decode cL_law 1450 = .ok (.invokevirtual 109, 3) := dk_182 0 109 (dk_at dksL_law_57 11 rfl rfl)
theorem dL_law_1453 : decode cL_law 1453 = .ok (.iload 5, 2) := dk_21 5 (dk_at dksL_law_57 14 rfl rfl)
theorem dL_law_1455 : decode cL_law 1455 = .ok (.if_icmp .eq 5, 3) := dk_159 0 5 (dk_at dksL_law_57 16 rfl rfl)
theorem dL_law_1458 : decode cL_law 1458 = .ok (.iconst 0, 1) := dk_3 (dk_at dksL_law_57 19 rfl rfl)
theorem dL_law_1459 : decode cL_law 1459 = .ok (.ireturn, 1) := dk_172 (dk_at dksL_law_57 20 rfl rfl)
theorem dL_law_1460 : decode cL_law 1460 = .ok (.iload 5, 2) := dk_21 5 (dk_at dksL_law_57 21 rfl rfl)
theorem dL_law_1462 : decode cL_law 1462 = .ok (.ifCond .ne 15, 3) := dk_154 0 15 (dk_at dksL_law_58 0 rfl rfl)
theorem dL_law_1465 : decode cL_law 1465 = .ok (.aload_n 3, 1) := dk_45 (dk_at dksL_law_58 3 rfl rfl)
theorem dL_law_1466 : decode cL_law 1466 = .ok (.iconst 0, 1) := dk_3 (dk_at dksL_law_58 4 rfl rfl)
theorem dL_law_1467 : decode cL_law 1467 = .ok (.laload, 1) := dk_47 (dk_at dksL_law_58 5 rfl rfl)
theorem dL_law_1468 : decode cL_law 1468 = .ok (.iload 6, 2) := dk_21 6 (dk_at dksL_law_58 6 rfl rfl)
theorem dL_law_1470 : decode cL_law 1470 = .ok (.i2l, 1) := dk_133 (dk_at dksL_law_58 8 rfl rfl)
theorem dL_law_1471 : decode cL_law 1471 = .ok (.lcmp, 1) := dk_148 (dk_at dksL_law_58 9 rfl rfl)
theorem dL_law_1472 : decode cL_law 1472 = .ok (.ifCond .eq 5, 3) := dk_153 0 5 (dk_at dksL_law_58 10 rfl rfl)
theorem dL_law_1475 : decode cL_law 1475 = .ok (.iconst 0, 1) := dk_3 (dk_at dksL_law_58 13 rfl rfl)
theorem dL_law_1476 : decode cL_law 1476 = .ok (.ireturn, 1) := dk_172 (dk_at dksL_law_58 14 rfl rfl)
theorem dL_law_1477 : decode cL_law 1477 = .ok (.goto 719, 3) := dk_167 2 207 (dk_at dksL_law_58 15 rfl rfl)
theorem dL_law_1480 : decode cL_law 1480 = .ok (.aload_n 1, 1) := dk_43 (dk_at dksL_law_58 18 rfl rfl)
theorem dL_law_1481 : decode cL_law 1481 = .ok (.aload_n 0, 1) := dk_42 (dk_at dksL_law_58 19 rfl rfl)
theorem dL_law_1482 : decode cL_law 1482 = .ok (.iload 4, 2) := dk_21 4 (dk_at dksL_law_58 20 rfl rfl)
theorem dL_law_1484 : decode cL_law 1484 = .ok (.iconst 1, 1) := dk_4 (dk_at dksL_law_58 22 rfl rfl)
theorem dL_law_1485 : decode cL_law 1485 = .ok (.iadd, 1) := dk_96 (dk_at dksL_law_58 23 rfl rfl)
theorem dL_law_1486 : decode cL_law 1486 = .ok (.iaload, 1) := dk_46 (dk_at dksL_law_59 0 rfl rfl)
theorem dL_law_1487 : decode cL_law 1487 = .ok (.aload_n 0, 1) := dk_42 (dk_at dksL_law_59 1 rfl rfl)
theorem dL_law_1488 : decode cL_law 1488 = .ok (.iload 4, 2) := dk_21 4 (dk_at dksL_law_59 2 rfl rfl)
theorem dL_law_1490 : decode cL_law 1490 = .ok (.iconst 2, 1) := dk_5 (dk_at dksL_law_59 4 rfl rfl)
theorem dL_law_1491 : decode cL_law 1491 = .ok (.iadd, 1) := dk_96 (dk_at dksL_law_59 5 rfl rfl)
theorem dL_law_1492 : decode cL_law 1492 = .ok (.iaload, 1) := dk_46 (dk_at dksL_law_59 6 rfl rfl)
theorem dL_law_1493 : decode cL_law 1493 = .ok (.aload_n 3, 1) := dk_45 (dk_at dksL_law_59 7 rfl rfl)
theorem dL_law_1494 : decode cL_law 1494 = .ok (.invokestatic 159, 3) := dk_184 0 159 (dk_at dksL_law_59 8 rfl rfl)
theorem dL_law_1497 : decode cL_law 1497 = .ok (.istore 5, 2) := dk_54 5 (dk_at dksL_law_59 11 rfl rfl)
theorem dL_law_1499 : decode cL_law 1499 = .ok (.aload_n 2, 1) := dk_44 (dk_at dksL_law_59 13 rfl rfl)
theorem dL_law_1500 : decode cL_law 1500 = .ok (.aload_n 0, 1) := dk_42 (dk_at dksL_law_59 14 rfl rfl)
theorem dL_law_1501 : decode cL_law 1501 = .ok (.iload 4, 2) := dk_21 4 (dk_at dksL_law_59 15 rfl rfl)
theorem dL_law_1503 : decode cL_law 1503 = .ok (.iconst 1, 1) := dk_4 (dk_at dksL_law_59 17 rfl rfl)
theorem dL_law_1504 : decode cL_law 1504 = .ok (.iadd, 1) := dk_96 (dk_at dksL_law_59 18 rfl rfl)
theorem dL_law_1505 : decode cL_law 1505 = .ok (.iaload, 1) := dk_46 (dk_at dksL_law_59 19 rfl rfl)
theorem dL_law_1506 : decode cL_law 1506 = .ok (.aload_n 0, 1) := dk_42 (dk_at dksL_law_59 20 rfl rfl)
theorem dL_law_1507 : decode cL_law 1507 = .ok (.iload 4, 2) := dk_21 4 (dk_at dksL_law_59 21 rfl rfl)
theorem dL_law_1509 : decode cL_law 1509 = .ok (.iconst 2, 1) := dk_5 (dk_at dksL_law_59 23 rfl rfl)
theorem dL_law_1510 : decode cL_law 1510 = .ok (.iadd, 1) := dk_96 (dk_at dksL_law_60 0 rfl rfl)
theorem dL_law_1511 : decode cL_law 1511 = .ok (.iaload, 1) := dk_46 (dk_at dksL_law_60 1 rfl rfl)
theorem dL_law_1512 : decode cL_law 1512 = .ok (.invokevirtual 162, 3) := dk_182 0 162 (dk_at dksL_law_60 2 rfl rfl)
theorem dL_law_1515 : decode cL_law 1515 = .ok (.istore 6, 2) := dk_54 6 (dk_at dksL_law_60 5 rfl rfl)
theorem dL_law_1517 : decode cL_law 1517 = .ok (.aload_n 2, 1) := dk_44 (dk_at dksL_law_60 7 rfl rfl)
theorem dL_law_1518 : decode cL_law 1518 = .ok (.invokevirtual 109, 3) := dk_182 0 109 (dk_at dksL_law_60 8 rfl rfl)
theorem dL_law_1521 : decode cL_law 1521 = .ok (.iload 5, 2) := dk_21 5 (dk_at dksL_law_60 11 rfl rfl)
theorem dL_law_1523 : decode cL_law 1523 = .ok (.if_icmp .eq 5, 3) := dk_159 0 5 (dk_at dksL_law_60 13 rfl rfl)
theorem dL_law_1526 : decode cL_law 1526 = .ok (.iconst 0, 1) := dk_3 (dk_at dksL_law_60 16 rfl rfl)
theorem dL_law_1527 : decode cL_law 1527 = .ok (.ireturn, 1) := dk_172 (dk_at dksL_law_60 17 rfl rfl)
theorem dL_law_1528 : decode cL_law 1528 = .ok (.iload 5, 2) := dk_21 5 (dk_at dksL_law_60 18 rfl rfl)
theorem dL_law_1530 : decode cL_law 1530 = .ok (.ifCond .ne 15, 3) := dk_154 0 15 (dk_at dksL_law_60 20 rfl rfl)
theorem dL_law_1533 : decode cL_law 1533 = .ok (.aload_n 3, 1) := dk_45 (dk_at dksL_law_60 23 rfl rfl)
theorem dL_law_1534 : decode cL_law 1534 = .ok (.iconst 0, 1) := dk_3 (dk_at dksL_law_61 0 rfl rfl)
theorem dL_law_1535 : decode cL_law 1535 = .ok (.laload, 1) := dk_47 (dk_at dksL_law_61 1 rfl rfl)
theorem dL_law_1536 : decode cL_law 1536 = .ok (.iload 6, 2) := dk_21 6 (dk_at dksL_law_61 2 rfl rfl)
theorem dL_law_1538 : decode cL_law 1538 = .ok (.i2l, 1) := dk_133 (dk_at dksL_law_61 4 rfl rfl)
theorem dL_law_1539 : decode cL_law 1539 = .ok (.lcmp, 1) := dk_148 (dk_at dksL_law_61 5 rfl rfl)
theorem dL_law_1540 : decode cL_law 1540 = .ok (.ifCond .eq 5, 3) := dk_153 0 5 (dk_at dksL_law_61 6 rfl rfl)
theorem dL_law_1543 : decode cL_law 1543 = .ok (.iconst 0, 1) := dk_3 (dk_at dksL_law_61 9 rfl rfl)
theorem dL_law_1544 : decode cL_law 1544 = .ok (.ireturn, 1) := dk_172 (dk_at dksL_law_61 10 rfl rfl)
theorem dL_law_1545 : decode cL_law 1545 = .ok (.goto 651, 3) := dk_167 2 139 (dk_at dksL_law_61 11 rfl rfl)
theorem dL_law_1548 : decode cL_law 1548 = .ok (.aload_n 1, 1) := dk_43 (dk_at dksL_law_61 14 rfl rfl)
theorem dL_law_1549 : decode cL_law 1549 = .ok (.aload_n 0, 1) := dk_42 (dk_at dksL_law_61 15 rfl rfl)
theorem dL_law_1550 : decode cL_law 1550 = .ok (.iload 4, 2) := dk_21 4 (dk_at dksL_law_61 16 rfl rfl)
theorem dL_law_1552 : decode cL_law 1552 = .ok (.iconst 1, 1) := dk_4 (dk_at dksL_law_61 18 rfl rfl)
theorem dL_law_1553 : decode cL_law 1553 = .ok (.iadd, 1) := dk_96 (dk_at dksL_law_61 19 rfl rfl)
theorem dL_law_1554 : decode cL_law 1554 = .ok (.iaload, 1) := dk_46 (dk_at dksL_law_61 20 rfl rfl)
theorem dL_law_1555 : decode cL_law 1555 = .ok (.aload_n 0, 1) := dk_42 (dk_at dksL_law_61 21 rfl rfl)
theorem dL_law_1556 : decode cL_law 1556 = .ok (.iload 4, 2) := dk_21 4 (dk_at dksL_law_61 22 rfl rfl)
theorem dL_law_1558 : decode cL_law 1558 = .ok (.iconst 2, 1) := dk_5 (dk_at dksL_law_62 0 rfl rfl)
theorem dL_law_1559 : decode cL_law 1559 = .ok (.iadd, 1) := dk_96 (dk_at dksL_law_62 1 rfl rfl)
theorem dL_law_1560 : decode cL_law 1560 = .ok (.iaload, 1) := dk_46 (dk_at dksL_law_62 2 rfl rfl)
theorem dL_law_1561 : decode cL_law 1561 = .ok (.aload_n 0, 1) := dk_42 (dk_at dksL_law_62 3 rfl rfl)
theorem dL_law_1562 : decode cL_law 1562 = .ok (.iload 4, 2) := dk_21 4 (dk_at dksL_law_62 4 rfl rfl)
theorem dL_law_1564 : decode cL_law 1564 = .ok (.iconst 3, 1) := dk_6 (dk_at dksL_law_62 6 rfl rfl)
theorem dL_law_1565 : decode cL_law 1565 = .ok (.iadd, 1) := dk_96 (dk_at dksL_law_62 7 rfl rfl)
theorem dL_law_1566 : decode cL_law 1566 = .ok (.iaload, 1) := dk_46 (dk_at dksL_law_62 8 rfl rfl)
theorem dL_law_1567 : decode cL_law 1567 = .ok (.aload_n 3, 1) := dk_45 (dk_at dksL_law_62 9 rfl rfl)
theorem dL_law_1568 : decode cL_law 1568 = .ok (.invokestatic 163, 3) := dk_184 0 163 (dk_at dksL_law_62 10 rfl rfl)
theorem dL_law_1571 : decode cL_law 1571 = .ok (.istore 5, 2) := dk_54 5 (dk_at dksL_law_62 13 rfl rfl)
theorem dL_law_1573 : decode cL_law 1573 = .ok (.aload_n 2, 1) := dk_44 (dk_at dksL_law_62 15 rfl rfl)
theorem dL_law_1574 : decode cL_law 1574 = .ok (.aload_n 0, 1) := dk_42 (dk_at dksL_law_62 16 rfl rfl)
theorem dL_law_1575 : decode cL_law 1575 = .ok (.iload 4, 2) := dk_21 4 (dk_at dksL_law_62 17 rfl rfl)
theorem dL_law_1577 : decode cL_law 1577 = .ok (.iconst 1, 1) := dk_4 (dk_at dksL_law_62 19 rfl rfl)
theorem dL_law_1578 : decode cL_law 1578 = .ok (.iadd, 1) := dk_96 (dk_at dksL_law_62 20 rfl rfl)
theorem dL_law_1579 : decode cL_law 1579 = .ok (.iaload, 1) := dk_46 (dk_at dksL_law_62 21 rfl rfl)
theorem dL_law_1580 : decode cL_law 1580 = .ok (.aload_n 0, 1) := dk_42 (dk_at dksL_law_62 22 rfl rfl)
theorem dL_law_1581 : decode cL_law 1581 = .ok (.iload 4, 2) := dk_21 4 (dk_at dksL_law_63 0 rfl rfl)
theorem dL_law_1583 : decode cL_law 1583 = .ok (.iconst 2, 1) := dk_5 (dk_at dksL_law_63 2 rfl rfl)
theorem dL_law_1584 : decode cL_law 1584 = .ok (.iadd, 1) := dk_96 (dk_at dksL_law_63 3 rfl rfl)
theorem dL_law_1585 : decode cL_law 1585 = .ok (.iaload, 1) := dk_46 (dk_at dksL_law_63 4 rfl rfl)
theorem dL_law_1586 : decode cL_law 1586 = .ok (.aload_n 0, 1) := dk_42 (dk_at dksL_law_63 5 rfl rfl)
theorem dL_law_1587 : decode cL_law 1587 = .ok (.iload 4, 2) := dk_21 4 (dk_at dksL_law_63 6 rfl rfl)
theorem dL_law_1589 : decode cL_law 1589 = .ok (.iconst 3, 1) := dk_6 (dk_at dksL_law_63 8 rfl rfl)
theorem dL_law_1590 : decode cL_law 1590 = .ok (.iadd, 1) := dk_96 (dk_at dksL_law_63 9 rfl rfl)
theorem dL_law_1591 : decode cL_law 1591 = .ok (.iaload, 1) := dk_46 (dk_at dksL_law_63 10 rfl rfl)
theorem dL_law_1592 : decode cL_law 1592 = .ok (.invokevirtual 165, 3) := dk_182 0 165 (dk_at dksL_law_63 11 rfl rfl)
theorem dL_law_1595 : decode cL_law 1595 = .ok (.istore 6, 2) := dk_54 6 (dk_at dksL_law_63 14 rfl rfl)
theorem dL_law_1597 : decode cL_law 1597 = .ok (.aload_n 2, 1) := dk_44 (dk_at dksL_law_63 16 rfl rfl)
theorem dL_law_1598 : decode cL_law 1598 = .ok (.invokevirtual 109, 3) := dk_182 0 109 (dk_at dksL_law_63 17 rfl rfl)
theorem dL_law_1601 : decode cL_law 1601 = .ok (.iload 5, 2) := dk_21 5 (dk_at dksL_law_63 20 rfl rfl)
theorem dL_law_1603 : decode cL_law 1603 = .ok (.if_icmp .eq 5, 3) := dk_159 0 5 (dk_at dksL_law_64 0 rfl rfl)
theorem dL_law_1606 : decode cL_law 1606 = .ok (.iconst 0, 1) := dk_3 (dk_at dksL_law_64 3 rfl rfl)
theorem dL_law_1607 : decode cL_law 1607 = .ok (.ireturn, 1) := dk_172 (dk_at dksL_law_64 4 rfl rfl)
theorem dL_law_1608 : decode cL_law 1608 = .ok (.iload 5, 2) := dk_21 5 (dk_at dksL_law_64 5 rfl rfl)
theorem dL_law_1610 : decode cL_law 1610 = .ok (.ifCond .ne 15, 3) := dk_154 0 15 (dk_at dksL_law_64 7 rfl rfl)
theorem dL_law_1613 : decode cL_law 1613 = .ok (.aload_n 3, 1) := dk_45 (dk_at dksL_law_64 10 rfl rfl)
theorem dL_law_1614 : decode cL_law 1614 = .ok (.iconst 0, 1) := dk_3 (dk_at dksL_law_64 11 rfl rfl)
theorem dL_law_1615 : decode cL_law 1615 = .ok (.laload, 1) := dk_47 (dk_at dksL_law_64 12 rfl rfl)
theorem dL_law_1616 : decode cL_law 1616 = .ok (.iload 6, 2) := dk_21 6 (dk_at dksL_law_64 13 rfl rfl)
theorem dL_law_1618 : decode cL_law 1618 = .ok (.i2l, 1) := dk_133 (dk_at dksL_law_64 15 rfl rfl)
theorem dL_law_1619 : decode cL_law 1619 = .ok (.lcmp, 1) := dk_148 (dk_at dksL_law_64 16 rfl rfl)
theorem dL_law_1620 : decode cL_law 1620 = .ok (.ifCond .eq 5, 3) := dk_153 0 5 (dk_at dksL_law_64 17 rfl rfl)
theorem dL_law_1623 : decode cL_law 1623 = .ok (.iconst 0, 1) := dk_3 (dk_at dksL_law_64 20 rfl rfl)
theorem dL_law_1624 : decode cL_law 1624 = .ok (.ireturn, 1) := dk_172 (dk_at dksL_law_64 21 rfl rfl)
theorem dL_law_1625 : decode cL_law 1625 = .ok (.goto 571, 3) := dk_167 2 59 (dk_at dksL_law_65 0 rfl rfl)
theorem dL_law_1628 : decode cL_law 1628 = .ok (.aload_n 1, 1) := dk_43 (dk_at dksL_law_65 3 rfl rfl)
theorem dL_law_1629 : decode cL_law 1629 = .ok (.invokevirtual 166, 3) := dk_182 0 166 (dk_at dksL_law_65 4 rfl rfl)
theorem dL_law_1632 : decode cL_law 1632 = .ok (.aload_n 2, 1) := dk_44 (dk_at dksL_law_65 7 rfl rfl)
theorem dL_law_1633 : decode cL_law 1633 = .ok (.invokevirtual 169, 3) := dk_182 0 169 (dk_at dksL_law_65 8 rfl rfl)
theorem dL_law_1636 : decode cL_law 1636 = .ok (.if_icmp .eq 560, 3) := dk_159 2 48 (dk_at dksL_law_65 11 rfl rfl)
theorem dL_law_1639 : decode cL_law 1639 = .ok (.iconst 0, 1) := dk_3 (dk_at dksL_law_65 14 rfl rfl)
theorem dL_law_1640 : decode cL_law 1640 = .ok (.ireturn, 1) := dk_172 (dk_at dksL_law_65 15 rfl rfl)
theorem dL_law_1641 : decode cL_law 1641 = .ok (.aload_n 1, 1) := dk_43 (dk_at dksL_law_65 16 rfl rfl)
theorem dL_law_1642 : decode cL_law 1642 = .ok (.aload_n 0, 1) := dk_42 (dk_at dksL_law_65 17 rfl rfl)
theorem dL_law_1643 : decode cL_law 1643 = .ok (.iload 4, 2) := dk_21 4 (dk_at dksL_law_65 18 rfl rfl)
theorem dL_law_1645 : decode cL_law 1645 = .ok (.iconst 1, 1) := dk_4 (dk_at dksL_law_65 20 rfl rfl)
theorem dL_law_1646 : decode cL_law 1646 = .ok (.iadd, 1) := dk_96 (dk_at dksL_law_65 21 rfl rfl)
theorem dL_law_1647 : decode cL_law 1647 = .ok (.iaload, 1) := dk_46 (dk_at dksL_law_65 22 rfl rfl)
theorem dL_law_1648 : decode cL_law 1648 = .ok (.aload_n 0, 1) := dk_42 (dk_at dksL_law_65 23 rfl rfl)
theorem dL_law_1649 : decode cL_law 1649 = .ok (.iload 4, 2) := dk_21 4 (dk_at dksL_law_66 0 rfl rfl)
theorem dL_law_1651 : decode cL_law 1651 = .ok (.iconst 2, 1) := dk_5 (dk_at dksL_law_66 2 rfl rfl)
theorem dL_law_1652 : decode cL_law 1652 = .ok (.iadd, 1) := dk_96 (dk_at dksL_law_66 3 rfl rfl)
theorem dL_law_1653 : decode cL_law 1653 = .ok (.iaload, 1) := dk_46 (dk_at dksL_law_66 4 rfl rfl)
theorem dL_law_1654 : decode cL_law 1654 = .ok (.aload_n 3, 1) := dk_45 (dk_at dksL_law_66 5 rfl rfl)
theorem dL_law_1655 : decode cL_law 1655 = .ok (.invokestatic 170, 3) := dk_184 0 170 (dk_at dksL_law_66 6 rfl rfl)
theorem dL_law_1658 : decode cL_law 1658 = .ok (.istore 5, 2) := dk_54 5 (dk_at dksL_law_66 9 rfl rfl)
theorem dL_law_1660 : decode cL_law 1660 = .ok (.aload_n 2, 1) := dk_44 (dk_at dksL_law_66 11 rfl rfl)
theorem dL_law_1661 : decode cL_law 1661 = .ok (.aload_n 0, 1) := dk_42 (dk_at dksL_law_66 12 rfl rfl)
theorem dL_law_1662 : decode cL_law 1662 = .ok (.iload 4, 2) := dk_21 4 (dk_at dksL_law_66 13 rfl rfl)
theorem dL_law_1664 : decode cL_law 1664 = .ok (.iconst 1, 1) := dk_4 (dk_at dksL_law_66 15 rfl rfl)
theorem dL_law_1665 : decode cL_law 1665 = .ok (.iadd, 1) := dk_96 (dk_at dksL_law_66 16 rfl rfl)
theorem dL_law_1666 : decode cL_law 1666 = .ok (.iaload, 1) := dk_46 (dk_at dksL_law_66 17 rfl rfl)
theorem dL_law_1667 : decode cL_law 1667 = .ok (.aload_n 0, 1) := dk_42 (dk_at dksL_law_66 18 rfl rfl)
theorem dL_law_1668 : decode cL_law 1668 = .ok (.iload 4, 2) := dk_21 4 (dk_at dksL_law_66 19 rfl rfl)
theorem dL_law_1670 : decode cL_law 1670 = .ok (.iconst 2, 1) := dk_5 (dk_at dksL_law_66 21 rfl rfl)
theorem dL_law_1671 : decode cL_law 1671 = .ok (.iadd, 1) := dk_96 (dk_at dksL_law_66 22 rfl rfl)
theorem dL_law_1672 : decode cL_law 1672 = .ok (.iaload, 1) := dk_46 (dk_at dksL_law_66 23 rfl rfl)
theorem dL_law_1673 : decode cL_law 1673 = .ok (.invokevirtual 172, 3) := dk_182 0 172 (dk_at dksL_law_67 0 rfl rfl)
theorem dL_law_1676 : decode cL_law 1676 = .ok (.istore 6, 2) := dk_54 6 (dk_at dksL_law_67 3 rfl rfl)
theorem dL_law_1678 : decode cL_law 1678 = .ok (.aload_n 2, 1) := dk_44 (dk_at dksL_law_67 5 rfl rfl)
theorem dL_law_1679 : decode cL_law 1679 = .ok (.invokevirtual 109, 3) := dk_182 0 109 (dk_at dksL_law_67 6 rfl rfl)
theorem dL_law_1682 : decode cL_law 1682 = .ok (.iload 5, 2) := dk_21 5 (dk_at dksL_law_67 9 rfl rfl)
theorem dL_law_1684 : decode cL_law 1684 = .ok (.if_icmp .eq 5, 3) := dk_159 0 5 (dk_at dksL_law_67 11 rfl rfl)
theorem dL_law_1687 : decode cL_law 1687 = .ok (.iconst 0, 1) := dk_3 (dk_at dksL_law_67 14 rfl rfl)
theorem dL_law_1688 : decode cL_law 1688 = .ok (.ireturn, 1) := dk_172 (dk_at dksL_law_67 15 rfl rfl)
theorem dL_law_1689 : decode cL_law 1689 = .ok (.iload 5, 2) := dk_21 5 (dk_at dksL_law_67 16 rfl rfl)
theorem dL_law_1691 : decode cL_law 1691 = .ok (.ifCond .ne 15, 3) := dk_154 0 15 (dk_at dksL_law_67 18 rfl rfl)
theorem dL_law_1694 : decode cL_law 1694 = .ok (.aload_n 3, 1) := dk_45 (dk_at dksL_law_67 21 rfl rfl)
theorem dL_law_1695 : decode cL_law 1695 = .ok (.iconst 0, 1) := dk_3 (dk_at dksL_law_67 22 rfl rfl)
theorem dL_law_1696 : decode cL_law 1696 = .ok (.laload, 1) := dk_47 (dk_at dksL_law_67 23 rfl rfl)
theorem dL_law_1697 : decode cL_law 1697 = .ok (.iload 6, 2) := dk_21 6 (dk_at dksL_law_68 0 rfl rfl)
theorem dL_law_1699 : decode cL_law 1699 = .ok (.i2l, 1) := dk_133 (dk_at dksL_law_68 2 rfl rfl)
theorem dL_law_1700 : decode cL_law 1700 = .ok (.lcmp, 1) := dk_148 (dk_at dksL_law_68 3 rfl rfl)
theorem dL_law_1701 : decode cL_law 1701 = .ok (.ifCond .eq 5, 3) := dk_153 0 5 (dk_at dksL_law_68 4 rfl rfl)
theorem dL_law_1704 : decode cL_law 1704 = .ok (.iconst 0, 1) := dk_3 (dk_at dksL_law_68 7 rfl rfl)
theorem dL_law_1705 : decode cL_law 1705 = .ok (.ireturn, 1) := dk_172 (dk_at dksL_law_68 8 rfl rfl)
theorem dL_law_1706 : decode cL_law 1706 = .ok (.goto 490, 3) := dk_167 1 234 (dk_at dksL_law_68 9 rfl rfl)
theorem dL_law_1709 : decode cL_law 1709 = .ok (.aload_n 1, 1) := dk_43 (dk_at dksL_law_68 12 rfl rfl)
theorem dL_law_1710 : decode cL_law 1710 = .ok (.aload_n 0, 1) := dk_42 (dk_at dksL_law_68 13 rfl rfl)
theorem dL_law_1711 : decode cL_law 1711 = .ok (.iload 4, 2) := dk_21 4 (dk_at dksL_law_68 14 rfl rfl)
theorem dL_law_1713 : decode cL_law 1713 = .ok (.iconst 1, 1) := dk_4 (dk_at dksL_law_68 16 rfl rfl)
theorem dL_law_1714 : decode cL_law 1714 = .ok (.iadd, 1) := dk_96 (dk_at dksL_law_68 17 rfl rfl)
theorem dL_law_1715 : decode cL_law 1715 = .ok (.iaload, 1) := dk_46 (dk_at dksL_law_68 18 rfl rfl)
theorem dL_law_1716 : decode cL_law 1716 = .ok (.aload_n 3, 1) := dk_45 (dk_at dksL_law_68 19 rfl rfl)
theorem dL_law_1717 : decode cL_law 1717 = .ok (.invokestatic 173, 3) := dk_184 0 173 (dk_at dksL_law_68 20 rfl rfl)
theorem dL_law_1720 : decode cL_law 1720 = .ok (.istore 5, 2) := dk_54 5 (dk_at dksL_law_69 0 rfl rfl)
theorem dL_law_1722 : decode cL_law 1722 = .ok (.aload_n 2, 1) := dk_44 (dk_at dksL_law_69 2 rfl rfl)
theorem dL_law_1723 : decode cL_law 1723 = .ok (.aload_n 0, 1) := dk_42 (dk_at dksL_law_69 3 rfl rfl)
theorem dL_law_1724 : decode cL_law 1724 = .ok (.iload 4, 2) := dk_21 4 (dk_at dksL_law_69 4 rfl rfl)
theorem dL_law_1726 : decode cL_law 1726 = .ok (.iconst 1, 1) := dk_4 (dk_at dksL_law_69 6 rfl rfl)
theorem dL_law_1727 : decode cL_law 1727 = .ok (.iadd, 1) := dk_96 (dk_at dksL_law_69 7 rfl rfl)
theorem dL_law_1728 : decode cL_law 1728 = .ok (.iaload, 1) := dk_46 (dk_at dksL_law_69 8 rfl rfl)
theorem dL_law_1729 : decode cL_law 1729 = .ok (.invokevirtual 175, 3) := dk_182 0 175 (dk_at dksL_law_69 9 rfl rfl)
theorem dL_law_1732 : decode cL_law 1732 = .ok (.istore 6, 2) := dk_54 6 (dk_at dksL_law_69 12 rfl rfl)
theorem dL_law_1734 : decode cL_law 1734 = .ok (.aload_n 2, 1) := dk_44 (dk_at dksL_law_69 14 rfl rfl)
theorem dL_law_1735 : decode cL_law 1735 = .ok (.invokevirtual 109, 3) := dk_182 0 109 (dk_at dksL_law_69 15 rfl rfl)
theorem dL_law_1738 : decode cL_law 1738 = .ok (.iload 5, 2) := dk_21 5 (dk_at dksL_law_69 18 rfl rfl)
theorem dL_law_1740 : decode cL_law 1740 = .ok (.if_icmp .eq 5, 3) := dk_159 0 5 (dk_at dksL_law_69 20 rfl rfl)
theorem dL_law_1743 : decode cL_law 1743 = .ok (.iconst 0, 1) := dk_3 (dk_at dksL_law_69 23 rfl rfl)
theorem dL_law_1744 : decode cL_law 1744 = .ok (.ireturn, 1) := dk_172 (dk_at dksL_law_70 0 rfl rfl)
theorem dL_law_1745 : decode cL_law 1745 = .ok (.iload 5, 2) := dk_21 5 (dk_at dksL_law_70 1 rfl rfl)
theorem dL_law_1747 : decode cL_law 1747 = .ok (.ifCond .ne 15, 3) := dk_154 0 15 (dk_at dksL_law_70 3 rfl rfl)
theorem dL_law_1750 : decode cL_law 1750 = .ok (.aload_n 3, 1) := dk_45 (dk_at dksL_law_70 6 rfl rfl)
theorem dL_law_1751 : decode cL_law 1751 = .ok (.iconst 0, 1) := dk_3 (dk_at dksL_law_70 7 rfl rfl)
theorem dL_law_1752 : decode cL_law 1752 = .ok (.laload, 1) := dk_47 (dk_at dksL_law_70 8 rfl rfl)
theorem dL_law_1753 : decode cL_law 1753 = .ok (.iload 6, 2) := dk_21 6 (dk_at dksL_law_70 9 rfl rfl)
theorem dL_law_1755 : decode cL_law 1755 = .ok (.i2l, 1) := dk_133 (dk_at dksL_law_70 11 rfl rfl)
theorem dL_law_1756 : decode cL_law 1756 = .ok (.lcmp, 1) := dk_148 (dk_at dksL_law_70 12 rfl rfl)
theorem dL_law_1757 : decode cL_law 1757 = .ok (.ifCond .eq 5, 3) := dk_153 0 5 (dk_at dksL_law_70 13 rfl rfl)
theorem dL_law_1760 : decode cL_law 1760 = .ok (.iconst 0, 1) := dk_3 (dk_at dksL_law_70 16 rfl rfl)
theorem dL_law_1761 : decode cL_law 1761 = .ok (.ireturn, 1) := dk_172 (dk_at dksL_law_70 17 rfl rfl)
theorem dL_law_1762 : decode cL_law 1762 = .ok (.goto 434, 3) := dk_167 1 178 (dk_at dksL_law_70 18 rfl rfl)
theorem dL_law_1765 : decode cL_law 1765 = .ok (.aload_n 1, 1) := dk_43 (dk_at dksL_law_70 21 rfl rfl)
theorem dL_law_1766 : decode cL_law 1766 = .ok (.aload_n 0, 1) := dk_42 (dk_at dksL_law_70 22 rfl rfl)
theorem dL_law_1767 : decode cL_law 1767 = .ok (.iload 4, 2) := dk_21 4 (dk_at dksL_law_71 0 rfl rfl)
theorem dL_law_1769 : decode cL_law 1769 = .ok (.iconst 1, 1) := dk_4 (dk_at dksL_law_71 2 rfl rfl)
theorem dL_law_1770 : decode cL_law 1770 = .ok (.iadd, 1) := dk_96 (dk_at dksL_law_71 3 rfl rfl)
theorem dL_law_1771 : decode cL_law 1771 = .ok (.iaload, 1) := dk_46 (dk_at dksL_law_71 4 rfl rfl)
theorem dL_law_1772 : decode cL_law 1772 = .ok (.aload_n 0, 1) := dk_42 (dk_at dksL_law_71 5 rfl rfl)
theorem dL_law_1773 : decode cL_law 1773 = .ok (.iload 4, 2) := dk_21 4 (dk_at dksL_law_71 6 rfl rfl)
theorem dL_law_1775 : decode cL_law 1775 = .ok (.iconst 2, 1) := dk_5 (dk_at dksL_law_71 8 rfl rfl)
theorem dL_law_1776 : decode cL_law 1776 = .ok (.iadd, 1) := dk_96 (dk_at dksL_law_71 9 rfl rfl)
theorem dL_law_1777 : decode cL_law 1777 = .ok (.iaload, 1) := dk_46 (dk_at dksL_law_71 10 rfl rfl)
theorem dL_law_1778 : decode cL_law 1778 = .ok (.aload_n 0, 1) := dk_42 (dk_at dksL_law_71 11 rfl rfl)
theorem dL_law_1779 : decode cL_law 1779 = .ok (.iload 4, 2) := dk_21 4 (dk_at dksL_law_71 12 rfl rfl)
theorem dL_law_1781 : decode cL_law 1781 = .ok (.iconst 3, 1) := dk_6 (dk_at dksL_law_71 14 rfl rfl)
theorem dL_law_1782 : decode cL_law 1782 = .ok (.iadd, 1) := dk_96 (dk_at dksL_law_71 15 rfl rfl)
theorem dL_law_1783 : decode cL_law 1783 = .ok (.iaload, 1) := dk_46 (dk_at dksL_law_71 16 rfl rfl)
theorem dL_law_1784 : decode cL_law 1784 = .ok (.aload_n 3, 1) := dk_45 (dk_at dksL_law_71 17 rfl rfl)
theorem dL_law_1785 : decode cL_law 1785 = .ok (.invokestatic 176, 3) := dk_184 0 176 (dk_at dksL_law_71 18 rfl rfl)
theorem dL_law_1788 : decode cL_law 1788 = .ok (.istore 5, 2) := dk_54 5 (dk_at dksL_law_71 21 rfl rfl)
theorem dL_law_1790 : decode cL_law 1790 = .ok (.aload_n 2, 1) := dk_44 (dk_at dksL_law_71 23 rfl rfl)
theorem dL_law_1791 : decode cL_law 1791 = .ok (.aload_n 0, 1) := dk_42 (dk_at dksL_law_72 0 rfl rfl)
theorem dL_law_1792 : decode cL_law 1792 = .ok (.iload 4, 2) := dk_21 4 (dk_at dksL_law_72 1 rfl rfl)
theorem dL_law_1794 : decode cL_law 1794 = .ok (.iconst 1, 1) := dk_4 (dk_at dksL_law_72 3 rfl rfl)
theorem dL_law_1795 : decode cL_law 1795 = .ok (.iadd, 1) := dk_96 (dk_at dksL_law_72 4 rfl rfl)
theorem dL_law_1796 : decode cL_law 1796 = .ok (.iaload, 1) := dk_46 (dk_at dksL_law_72 5 rfl rfl)
theorem dL_law_1797 : decode cL_law 1797 = .ok (.aload_n 0, 1) := dk_42 (dk_at dksL_law_72 6 rfl rfl)
theorem dL_law_1798 : decode cL_law 1798 = .ok (.iload 4, 2) := dk_21 4 (dk_at dksL_law_72 7 rfl rfl)
theorem dL_law_1800 : decode cL_law 1800 = .ok (.iconst 2, 1) := dk_5 (dk_at dksL_law_72 9 rfl rfl)
theorem dL_law_1801 : decode cL_law 1801 = .ok (.iadd, 1) := dk_96 (dk_at dksL_law_72 10 rfl rfl)
theorem dL_law_1802 : decode cL_law 1802 = .ok (.iaload, 1) := dk_46 (dk_at dksL_law_72 11 rfl rfl)
theorem dL_law_1803 : decode cL_law 1803 = .ok (.aload_n 0, 1) := dk_42 (dk_at dksL_law_72 12 rfl rfl)
theorem dL_law_1804 : decode cL_law 1804 = .ok (.iload 4, 2) := dk_21 4 (dk_at dksL_law_72 13 rfl rfl)
theorem dL_law_1806 : decode cL_law 1806 = .ok (.iconst 3, 1) := dk_6 (dk_at dksL_law_72 15 rfl rfl)
theorem dL_law_1807 : decode cL_law 1807 = .ok (.iadd, 1) := dk_96 (dk_at dksL_law_72 16 rfl rfl)
theorem dL_law_1808 : decode cL_law 1808 = .ok (.iaload, 1) := dk_46 (dk_at dksL_law_72 17 rfl rfl)
theorem dL_law_1809 : decode cL_law 1809 = .ok (.invokevirtual 178, 3) := dk_182 0 178 (dk_at dksL_law_72 18 rfl rfl)
theorem dL_law_1812 : decode cL_law 1812 = .ok (.istore 6, 2) := dk_54 6 (dk_at dksL_law_72 21 rfl rfl)
theorem dL_law_1814 : decode cL_law 1814 = .ok (.aload_n 2, 1) := dk_44 (dk_at dksL_law_72 23 rfl rfl)
theorem dL_law_1815 : decode cL_law 1815 = .ok (.invokevirtual 109, 3) := dk_182 0 109 (dk_at dksL_law_73 0 rfl rfl)
theorem dL_law_1818 : decode cL_law 1818 = .ok (.iload 5, 2) := dk_21 5 (dk_at dksL_law_73 3 rfl rfl)
theorem dL_law_1820 : decode cL_law 1820 = .ok (.if_icmp .eq 5, 3) := dk_159 0 5 (dk_at dksL_law_73 5 rfl rfl)
theorem dL_law_1823 : decode cL_law 1823 = .ok (.iconst 0, 1) := dk_3 (dk_at dksL_law_73 8 rfl rfl)
theorem dL_law_1824 : decode cL_law 1824 = .ok (.ireturn, 1) := dk_172 (dk_at dksL_law_73 9 rfl rfl)
theorem dL_law_1825 : decode cL_law 1825 = .ok (.iload 5, 2) := dk_21 5 (dk_at dksL_law_73 10 rfl rfl)
theorem dL_law_1827 : decode cL_law 1827 = .ok (.ifCond .ne 15, 3) := dk_154 0 15 (dk_at dksL_law_73 12 rfl rfl)
theorem dL_law_1830 : decode cL_law 1830 = .ok (.aload_n 3, 1) := dk_45 (dk_at dksL_law_73 15 rfl rfl)
theorem dL_law_1831 : decode cL_law 1831 = .ok (.iconst 0, 1) := dk_3 (dk_at dksL_law_73 16 rfl rfl)
theorem dL_law_1832 : decode cL_law 1832 = .ok (.laload, 1) := dk_47 (dk_at dksL_law_73 17 rfl rfl)
theorem dL_law_1833 : decode cL_law 1833 = .ok (.iload 6, 2) := dk_21 6 (dk_at dksL_law_73 18 rfl rfl)
theorem dL_law_1835 : decode cL_law 1835 = .ok (.i2l, 1) := dk_133 (dk_at dksL_law_73 20 rfl rfl)
theorem dL_law_1836 : decode cL_law 1836 = .ok (.lcmp, 1) := dk_148 (dk_at dksL_law_73 21 rfl rfl)
theorem dL_law_1837 : decode cL_law 1837 = .ok (.ifCond .eq 5, 3) := dk_153 0 5 (dk_at dksL_law_74 0 rfl rfl)
theorem dL_law_1840 : decode cL_law 1840 = .ok (.iconst 0, 1) := dk_3 (dk_at dksL_law_74 3 rfl rfl)
theorem dL_law_1841 : decode cL_law 1841 = .ok (.ireturn, 1) := dk_172 (dk_at dksL_law_74 4 rfl rfl)
theorem dL_law_1842 : decode cL_law 1842 = .ok (.goto 354, 3) := dk_167 1 98 (dk_at dksL_law_74 5 rfl rfl)
theorem dL_law_1845 : decode cL_law 1845 = .ok (.aload_n 1, 1) := dk_43 (dk_at dksL_law_74 8 rfl rfl)
theorem dL_law_1846 : decode cL_law 1846 = .ok (.aload_n 0, 1) := dk_42 (dk_at dksL_law_74 9 rfl rfl)
theorem dL_law_1847 : decode cL_law 1847 = .ok (.iload 4, 2) := dk_21 4 (dk_at dksL_law_74 10 rfl rfl)
theorem dL_law_1849 : decode cL_law 1849 = .ok (.iconst 1, 1) := dk_4 (dk_at dksL_law_74 12 rfl rfl)
theorem dL_law_1850 : decode cL_law 1850 = .ok (.iadd, 1) := dk_96 (dk_at dksL_law_74 13 rfl rfl)
theorem dL_law_1851 : decode cL_law 1851 = .ok (.iaload, 1) := dk_46 (dk_at dksL_law_74 14 rfl rfl)
theorem dL_law_1852 : decode cL_law 1852 = .ok (.aload_n 0, 1) := dk_42 (dk_at dksL_law_74 15 rfl rfl)
theorem dL_law_1853 : decode cL_law 1853 = .ok (.iload 4, 2) := dk_21 4 (dk_at dksL_law_74 16 rfl rfl)
theorem dL_law_1855 : decode cL_law 1855 = .ok (.iconst 2, 1) := dk_5 (dk_at dksL_law_74 18 rfl rfl)
theorem dL_law_1856 : decode cL_law 1856 = .ok (.iadd, 1) := dk_96 (dk_at dksL_law_74 19 rfl rfl)
theorem dL_law_1857 : decode cL_law 1857 = .ok (.iaload, 1) := dk_46 (dk_at dksL_law_74 20 rfl rfl)
theorem dL_law_1858 : decode cL_law 1858 = .ok (.aload_n 3, 1) := dk_45 (dk_at dksL_law_74 21 rfl rfl)
theorem dL_law_1859 : decode cL_law 1859 = .ok (.invokestatic 179, 3) := dk_184 0 179 (dk_at dksL_law_75 0 rfl rfl)
theorem dL_law_1862 : decode cL_law 1862 = .ok (.istore 5, 2) := dk_54 5 (dk_at dksL_law_75 3 rfl rfl)
theorem dL_law_1864 : decode cL_law 1864 = .ok (.aload_n 2, 1) := dk_44 (dk_at dksL_law_75 5 rfl rfl)
theorem dL_law_1865 : decode cL_law 1865 = .ok (.aload_n 0, 1) := dk_42 (dk_at dksL_law_75 6 rfl rfl)
theorem dL_law_1866 : decode cL_law 1866 = .ok (.iload 4, 2) := dk_21 4 (dk_at dksL_law_75 7 rfl rfl)
theorem dL_law_1868 : decode cL_law 1868 = .ok (.iconst 1, 1) := dk_4 (dk_at dksL_law_75 9 rfl rfl)
theorem dL_law_1869 : decode cL_law 1869 = .ok (.iadd, 1) := dk_96 (dk_at dksL_law_75 10 rfl rfl)
theorem dL_law_1870 : decode cL_law 1870 = .ok (.iaload, 1) := dk_46 (dk_at dksL_law_75 11 rfl rfl)
theorem dL_law_1871 : decode cL_law 1871 = .ok (.aload_n 0, 1) := dk_42 (dk_at dksL_law_75 12 rfl rfl)
theorem dL_law_1872 : decode cL_law 1872 = .ok (.iload 4, 2) := dk_21 4 (dk_at dksL_law_75 13 rfl rfl)
theorem dL_law_1874 : decode cL_law 1874 = .ok (.iconst 2, 1) := dk_5 (dk_at dksL_law_75 15 rfl rfl)
theorem dL_law_1875 : decode cL_law 1875 = .ok (.iadd, 1) := dk_96 (dk_at dksL_law_75 16 rfl rfl)
theorem dL_law_1876 : decode cL_law 1876 = .ok (.iaload, 1) := dk_46 (dk_at dksL_law_75 17 rfl rfl)
theorem dL_law_1877 : decode cL_law 1877 = .ok (.invokevirtual 181, 3) := dk_182 0 181 (dk_at dksL_law_75 18 rfl rfl)
theorem dL_law_1880 : decode cL_law 1880 = .ok (.istore 6, 2) := dk_54 6 (dk_at dksL_law_75 21 rfl rfl)
theorem dL_law_1882 : decode cL_law 1882 = .ok (.aload_n 2, 1) := dk_44 (dk_at dksL_law_75 23 rfl rfl)
theorem dL_law_1883 : decode cL_law 1883 = .ok (.invokevirtual 109, 3) := dk_182 0 109 (dk_at dksL_law_76 0 rfl rfl)
theorem dL_law_1886 : decode cL_law 1886 = .ok (.iload 5, 2) := dk_21 5 (dk_at dksL_law_76 3 rfl rfl)
theorem dL_law_1888 : decode cL_law 1888 = .ok (.if_icmp .eq 5, 3) := dk_159 0 5 (dk_at dksL_law_76 5 rfl rfl)
theorem dL_law_1891 : decode cL_law 1891 = .ok (.iconst 0, 1) := dk_3 (dk_at dksL_law_76 8 rfl rfl)
theorem dL_law_1892 : decode cL_law 1892 = .ok (.ireturn, 1) := dk_172 (dk_at dksL_law_76 9 rfl rfl)
theorem dL_law_1893 : decode cL_law 1893 = .ok (.iload 5, 2) := dk_21 5 (dk_at dksL_law_76 10 rfl rfl)
theorem dL_law_1895 : decode cL_law 1895 = .ok (.ifCond .ne 22, 3) := dk_154 0 22 (dk_at dksL_law_76 12 rfl rfl)
theorem dL_law_1898 : decode cL_law 1898 = .ok (.aload_n 3, 1) := dk_45 (dk_at dksL_law_76 15 rfl rfl)
theorem dL_law_1899 : decode cL_law 1899 = .ok (.iconst 0, 1) := dk_3 (dk_at dksL_law_76 16 rfl rfl)
theorem dL_law_1900 : decode cL_law 1900 = .ok (.laload, 1) := dk_47 (dk_at dksL_law_76 17 rfl rfl)
theorem dL_law_1901 : decode cL_law 1901 = .ok (.iload 6, 2) := dk_21 6 (dk_at dksL_law_76 18 rfl rfl)
theorem dL_law_1903 : decode cL_law 1903 = .ok (.ifCond .eq 7, 3) := dk_153 0 7 (dk_at dksL_law_76 20 rfl rfl)
theorem dL_law_1906 : decode cL_law 1906 = .ok (.lconst 1, 1) := dk_10 (dk_at dksL_law_76 23 rfl rfl)
theorem dL_law_1907 : decode cL_law 1907 = .ok (.goto 4, 3) := dk_167 0 4 (dk_at dksL_law_77 0 rfl rfl)
theorem dL_law_1910 : decode cL_law 1910 = .ok (.lconst 0, 1) := dk_9 (dk_at dksL_law_77 3 rfl rfl)
theorem dL_law_1911 : decode cL_law 1911 = .ok (.lcmp, 1) := dk_148 (dk_at dksL_law_77 4 rfl rfl)
theorem dL_law_1912 : decode cL_law 1912 = .ok (.ifCond .eq 5, 3) := dk_153 0 5 (dk_at dksL_law_77 5 rfl rfl)
theorem dL_law_1915 : decode cL_law 1915 = .ok (.iconst 0, 1) := dk_3 (dk_at dksL_law_77 8 rfl rfl)
theorem dL_law_1916 : decode cL_law 1916 = .ok (.ireturn, 1) := dk_172 (dk_at dksL_law_77 9 rfl rfl)
theorem dL_law_1917 : decode cL_law 1917 = .ok (.goto 279, 3) := dk_167 1 23 (dk_at dksL_law_77 10 rfl rfl)
theorem dL_law_1920 : decode cL_law 1920 = .ok (.aload_n 1, 1) := dk_43 (dk_at dksL_law_77 13 rfl rfl)
theorem dL_law_1921 : decode cL_law 1921 = .ok (.aload_n 0, 1) := dk_42 (dk_at dksL_law_77 14 rfl rfl)
theorem dL_law_1922 : decode cL_law 1922 = .ok (.iload 4, 2) := dk_21 4 (dk_at dksL_law_77 15 rfl rfl)
theorem dL_law_1924 : decode cL_law 1924 = .ok (.iconst 1, 1) := dk_4 (dk_at dksL_law_77 17 rfl rfl)
theorem dL_law_1925 : decode cL_law 1925 = .ok (.iadd, 1) := dk_96 (dk_at dksL_law_77 18 rfl rfl)
theorem dL_law_1926 : decode cL_law 1926 = .ok (.iaload, 1) := dk_46 (dk_at dksL_law_77 19 rfl rfl)
theorem dL_law_1927 : decode cL_law 1927 = .ok (.aload_n 0, 1) := dk_42 (dk_at dksL_law_77 20 rfl rfl)
theorem dL_law_1928 : decode cL_law 1928 = .ok (.iload 4, 2) := dk_21 4 (dk_at dksL_law_77 21 rfl rfl)
theorem dL_law_1930 : decode cL_law 1930 = .ok (.iconst 2, 1) := dk_5 (dk_at dksL_law_77 23 rfl rfl)
theorem dL_law_1931 : decode cL_law 1931 = .ok (.iadd, 1) := dk_96 (dk_at dksL_law_78 0 rfl rfl)
theorem dL_law_1932 : decode cL_law 1932 = .ok (.iaload, 1) := dk_46 (dk_at dksL_law_78 1 rfl rfl)
theorem dL_law_1933 : decode cL_law 1933 = .ok (.aload_n 3, 1) := dk_45 (dk_at dksL_law_78 2 rfl rfl)
theorem dL_law_1934 : decode cL_law 1934 = .ok (.invokestatic 182, 3) := dk_184 0 182 (dk_at dksL_law_78 3 rfl rfl)
theorem dL_law_1937 : decode cL_law 1937 = .ok (.istore 5, 2) := dk_54 5 (dk_at dksL_law_78 6 rfl rfl)
theorem dL_law_1939 : decode cL_law 1939 = .ok (.aload_n 2, 1) := dk_44 (dk_at dksL_law_78 8 rfl rfl)
theorem dL_law_1940 : decode cL_law 1940 = .ok (.aload_n 0, 1) := dk_42 (dk_at dksL_law_78 9 rfl rfl)
theorem dL_law_1941 : decode cL_law 1941 = .ok (.iload 4, 2) := dk_21 4 (dk_at dksL_law_78 10 rfl rfl)
theorem dL_law_1943 : decode cL_law 1943 = .ok (.iconst 1, 1) := dk_4 (dk_at dksL_law_78 12 rfl rfl)
theorem dL_law_1944 : decode cL_law 1944 = .ok (.iadd, 1) := dk_96 (dk_at dksL_law_78 13 rfl rfl)
theorem dL_law_1945 : decode cL_law 1945 = .ok (.iaload, 1) := dk_46 (dk_at dksL_law_78 14 rfl rfl)
theorem dL_law_1946 : decode cL_law 1946 = .ok (.aload_n 0, 1) := dk_42 (dk_at dksL_law_78 15 rfl rfl)
theorem dL_law_1947 : decode cL_law 1947 = .ok (.iload 4, 2) := dk_21 4 (dk_at dksL_law_78 16 rfl rfl)
theorem dL_law_1949 : decode cL_law 1949 = .ok (.iconst 2, 1) := dk_5 (dk_at dksL_law_78 18 rfl rfl)
theorem dL_law_1950 : decode cL_law 1950 = .ok (.iadd, 1) := dk_96 (dk_at dksL_law_78 19 rfl rfl)
theorem dL_law_1951 : decode cL_law 1951 = .ok (.iaload, 1) := dk_46 (dk_at dksL_law_78 20 rfl rfl)
theorem dL_law_1952 : decode cL_law 1952 = .ok (.invokevirtual 184, 3) := dk_182 0 184 (dk_at dksL_law_78 21 rfl rfl)
theorem dL_law_1955 : decode cL_law 1955 = .ok (.istore 6, 2) := dk_54 6 (dk_at dksL_law_79 0 rfl rfl)
theorem dL_law_1957 : decode cL_law 1957 = .ok (.aload_n 2, 1) := dk_44 (dk_at dksL_law_79 2 rfl rfl)
theorem dL_law_1958 : decode cL_law 1958 = .ok (.invokevirtual 109, 3) := dk_182 0 109 (dk_at dksL_law_79 3 rfl rfl)
theorem dL_law_1961 : decode cL_law 1961 = .ok (.iload 5, 2) := dk_21 5 (dk_at dksL_law_79 6 rfl rfl)
theorem dL_law_1963 : decode cL_law 1963 = .ok (.if_icmp .eq 5, 3) := dk_159 0 5 (dk_at dksL_law_79 8 rfl rfl)
theorem dL_law_1966 : decode cL_law 1966 = .ok (.iconst 0, 1) := dk_3 (dk_at dksL_law_79 11 rfl rfl)
theorem dL_law_1967 : decode cL_law 1967 = .ok (.ireturn, 1) := dk_172 (dk_at dksL_law_79 12 rfl rfl)
theorem dL_law_1968 : decode cL_law 1968 = .ok (.iload 5, 2) := dk_21 5 (dk_at dksL_law_79 13 rfl rfl)
theorem dL_law_1970 : decode cL_law 1970 = .ok (.ifCond .ne 15, 3) := dk_154 0 15 (dk_at dksL_law_79 15 rfl rfl)
theorem dL_law_1973 : decode cL_law 1973 = .ok (.aload_n 3, 1) := dk_45 (dk_at dksL_law_79 18 rfl rfl)
theorem dL_law_1974 : decode cL_law 1974 = .ok (.iconst 0, 1) := dk_3 (dk_at dksL_law_79 19 rfl rfl)
theorem dL_law_1975 : decode cL_law 1975 = .ok (.laload, 1) := dk_47 (dk_at dksL_law_79 20 rfl rfl)
theorem dL_law_1976 : decode cL_law 1976 = .ok (.iload 6, 2) := dk_21 6 (dk_at dksL_law_79 21 rfl rfl)
theorem dL_law_1978 : decode cL_law 1978 = .ok (.i2l, 1) := dk_133 (dk_at dksL_law_79 23 rfl rfl)
theorem dL_law_1979 : decode cL_law 1979 = .ok (.lcmp, 1) := dk_148 (dk_at dksL_law_80 0 rfl rfl)
theorem dL_law_1980 : decode cL_law 1980 = .ok (.ifCond .eq 5, 3) := dk_153 0 5 (dk_at dksL_law_80 1 rfl rfl)
theorem dL_law_1983 : decode cL_law 1983 = .ok (.iconst 0, 1) := dk_3 (dk_at dksL_law_80 4 rfl rfl)
theorem dL_law_1984 : decode cL_law 1984 = .ok (.ireturn, 1) := dk_172 (dk_at dksL_law_80 5 rfl rfl)
theorem dL_law_1985 : decode cL_law 1985 = .ok (.goto 211, 3) := dk_167 0 211 (dk_at dksL_law_80 6 rfl rfl)
theorem dL_law_1988 : decode cL_law 1988 = .ok (.aload_n 1, 1) := dk_43 (dk_at dksL_law_80 9 rfl rfl)
theorem dL_law_1989 : decode cL_law 1989 = .ok (.aload_n 0, 1) := dk_42 (dk_at dksL_law_80 10 rfl rfl)
theorem dL_law_1990 : decode cL_law 1990 = .ok (.iload 4, 2) := dk_21 4 (dk_at dksL_law_80 11 rfl rfl)
theorem dL_law_1992 : decode cL_law 1992 = .ok (.iconst 1, 1) := dk_4 (dk_at dksL_law_80 13 rfl rfl)
theorem dL_law_1993 : decode cL_law 1993 = .ok (.iadd, 1) := dk_96 (dk_at dksL_law_80 14 rfl rfl)
theorem dL_law_1994 : decode cL_law 1994 = .ok (.iaload, 1) := dk_46 (dk_at dksL_law_80 15 rfl rfl)
theorem dL_law_1995 : decode cL_law 1995 = .ok (.aload_n 3, 1) := dk_45 (dk_at dksL_law_80 16 rfl rfl)
theorem dL_law_1996 : decode cL_law 1996 = .ok (.invokestatic 185, 3) := dk_184 0 185 (dk_at dksL_law_80 17 rfl rfl)
theorem dL_law_1999 : decode cL_law 1999 = .ok (.istore 5, 2) := dk_54 5 (dk_at dksL_law_80 20 rfl rfl)
theorem dL_law_2001 : decode cL_law 2001 = .ok (.aload_n 2, 1) := dk_44 (dk_at dksL_law_80 22 rfl rfl)
theorem dL_law_2002 : decode cL_law 2002 = .ok (.aload_n 0, 1) := dk_42 (dk_at dksL_law_80 23 rfl rfl)
theorem dL_law_2003 : decode cL_law 2003 = .ok (.iload 4, 2) := dk_21 4 (dk_at dksL_law_81 0 rfl rfl)
theorem dL_law_2005 : decode cL_law 2005 = .ok (.iconst 1, 1) := dk_4 (dk_at dksL_law_81 2 rfl rfl)
theorem dL_law_2006 : decode cL_law 2006 = .ok (.iadd, 1) := dk_96 (dk_at dksL_law_81 3 rfl rfl)
theorem dL_law_2007 : decode cL_law 2007 = .ok (.iaload, 1) := dk_46 (dk_at dksL_law_81 4 rfl rfl)
theorem dL_law_2008 : decode cL_law 2008 = .ok (.invokevirtual 187, 3) := dk_182 0 187 (dk_at dksL_law_81 5 rfl rfl)
theorem dL_law_2011 : decode cL_law 2011 = .ok (.istore 6, 2) := dk_54 6 (dk_at dksL_law_81 8 rfl rfl)
theorem dL_law_2013 : decode cL_law 2013 = .ok (.aload_n 2, 1) := dk_44 (dk_at dksL_law_81 10 rfl rfl)
theorem dL_law_2014 : decode cL_law 2014 = .ok (.invokevirtual 109, 3) := dk_182 0 109 (dk_at dksL_law_81 11 rfl rfl)
theorem dL_law_2017 : decode cL_law 2017 = .ok (.iload 5, 2) := dk_21 5 (dk_at dksL_law_81 14 rfl rfl)
theorem dL_law_2019 : decode cL_law 2019 = .ok (.if_icmp .eq 5, 3) := dk_159 0 5 (dk_at dksL_law_81 16 rfl rfl)
theorem dL_law_2022 : decode cL_law 2022 = .ok (.iconst 0, 1) := dk_3 (dk_at dksL_law_81 19 rfl rfl)
theorem dL_law_2023 : decode cL_law 2023 = .ok (.ireturn, 1) := dk_172 (dk_at dksL_law_81 20 rfl rfl)
theorem dL_law_2024 : decode cL_law 2024 = .ok (.iload 5, 2) := dk_21 5 (dk_at dksL_law_81 21 rfl rfl)
theorem dL_law_2026 : decode cL_law 2026 = .ok (.ifCond .ne 15, 3) := dk_154 0 15 (dk_at dksL_law_82 0 rfl rfl)
theorem dL_law_2029 : decode cL_law 2029 = .ok (.aload_n 3, 1) := dk_45 (dk_at dksL_law_82 3 rfl rfl)
theorem dL_law_2030 : decode cL_law 2030 = .ok (.iconst 0, 1) := dk_3 (dk_at dksL_law_82 4 rfl rfl)
theorem dL_law_2031 : decode cL_law 2031 = .ok (.laload, 1) := dk_47 (dk_at dksL_law_82 5 rfl rfl)
theorem dL_law_2032 : decode cL_law 2032 = .ok (.iload 6, 2) := dk_21 6 (dk_at dksL_law_82 6 rfl rfl)
theorem dL_law_2034 : decode cL_law 2034 = .ok (.i2l, 1) := dk_133 (dk_at dksL_law_82 8 rfl rfl)
theorem dL_law_2035 : decode cL_law 2035 = .ok (.lcmp, 1) := dk_148 (dk_at dksL_law_82 9 rfl rfl)
theorem dL_law_2036 : decode cL_law 2036 = .ok (.ifCond .eq 5, 3) := dk_153 0 5 (dk_at dksL_law_82 10 rfl rfl)
theorem dL_law_2039 : decode cL_law 2039 = .ok (.iconst 0, 1) := dk_3 (dk_at dksL_law_82 13 rfl rfl)
theorem dL_law_2040 : decode cL_law 2040 = .ok (.ireturn, 1) := dk_172 (dk_at dksL_law_82 14 rfl rfl)
theorem dL_law_2041 : decode cL_law 2041 = .ok (.goto 155, 3) := dk_167 0 155 (dk_at dksL_law_82 15 rfl rfl)
theorem dL_law_2044 : decode cL_law 2044 = .ok (.aload_n 1, 1) := dk_43 (dk_at dksL_law_82 18 rfl rfl)
theorem dL_law_2045 : decode cL_law 2045 = .ok (.invokevirtual 188, 3) := dk_182 0 188 (dk_at dksL_law_82 19 rfl rfl)
theorem dL_law_2048 : decode cL_law 2048 = .ok (.aload_n 2, 1) := dk_44 (dk_at dksL_law_82 22 rfl rfl)
theorem dL_law_2049 : decode cL_law 2049 = .ok (.invokevirtual 191, 3) := dk_182 0 191 (dk_at dksL_law_83 0 rfl rfl)
theorem dL_law_2052 : decode cL_law 2052 = .ok (.if_icmp .eq 144, 3) := dk_159 0 144 (dk_at dksL_law_83 3 rfl rfl)
theorem dL_law_2055 : decode cL_law 2055 = .ok (.iconst 0, 1) := dk_3 (dk_at dksL_law_83 6 rfl rfl)
theorem dL_law_2056 : decode cL_law 2056 = .ok (.ireturn, 1) := dk_172 (dk_at dksL_law_83 7 rfl rfl)
theorem dL_law_2057 : decode cL_law 2057 = .ok (.aload_n 1, 1) := dk_43 (dk_at dksL_law_83 8 rfl rfl)
theorem dL_law_2058 : decode cL_law 2058 = .ok (.aload_n 0, 1) := dk_42 (dk_at dksL_law_83 9 rfl rfl)
theorem dL_law_2059 : decode cL_law 2059 = .ok (.iload 4, 2) := dk_21 4 (dk_at dksL_law_83 10 rfl rfl)
theorem dL_law_2061 : decode cL_law 2061 = .ok (.iconst 1, 1) := dk_4 (dk_at dksL_law_83 12 rfl rfl)
theorem dL_law_2062 : decode cL_law 2062 = .ok (.iadd, 1) := dk_96 (dk_at dksL_law_83 13 rfl rfl)
theorem dL_law_2063 : decode cL_law 2063 = .ok (.iaload, 1) := dk_46 (dk_at dksL_law_83 14 rfl rfl)
theorem dL_law_2064 : decode cL_law 2064 = .ok (.aload_n 3, 1) := dk_45 (dk_at dksL_law_83 15 rfl rfl)
theorem dL_law_2065 : decode cL_law 2065 = .ok (.invokestatic 192, 3) := dk_184 0 192 (dk_at dksL_law_83 16 rfl rfl)
theorem dL_law_2068 : decode cL_law 2068 = .ok (.istore 5, 2) := dk_54 5 (dk_at dksL_law_83 19 rfl rfl)
theorem dL_law_2070 : decode cL_law 2070 = .ok (.aload_n 2, 1) := dk_44 (dk_at dksL_law_83 21 rfl rfl)
theorem dL_law_2071 : decode cL_law 2071 = .ok (.aload_n 0, 1) := dk_42 (dk_at dksL_law_83 22 rfl rfl)
theorem dL_law_2072 : decode cL_law 2072 = .ok (.iload 4, 2) := dk_21 4 (dk_at dksL_law_84 0 rfl rfl)
theorem dL_law_2074 : decode cL_law 2074 = .ok (.iconst 1, 1) := dk_4 (dk_at dksL_law_84 2 rfl rfl)
theorem dL_law_2075 : decode cL_law 2075 = .ok (.iadd, 1) := dk_96 (dk_at dksL_law_84 3 rfl rfl)
theorem dL_law_2076 : decode cL_law 2076 = .ok (.iaload, 1) := dk_46 (dk_at dksL_law_84 4 rfl rfl)
theorem dL_law_2077 : decode cL_law 2077 = .ok (.invokevirtual 194, 3) := dk_182 0 194 (dk_at dksL_law_84 5 rfl rfl)
theorem dL_law_2080 : decode cL_law 2080 = .ok (.istore 6, 2) := dk_54 6 (dk_at dksL_law_84 8 rfl rfl)
theorem dL_law_2082 : decode cL_law 2082 = .ok (.aload_n 2, 1) := dk_44 (dk_at dksL_law_84 10 rfl rfl)
theorem dL_law_2083 : decode cL_law 2083 = .ok (.invokevirtual 109, 3) := dk_182 0 109 (dk_at dksL_law_84 11 rfl rfl)
theorem dL_law_2086 : decode cL_law 2086 = .ok (.iload 5, 2) := dk_21 5 (dk_at dksL_law_84 14 rfl rfl)
theorem dL_law_2088 : decode cL_law 2088 = .ok (.if_icmp .eq 5, 3) := dk_159 0 5 (dk_at dksL_law_84 16 rfl rfl)
theorem dL_law_2091 : decode cL_law 2091 = .ok (.iconst 0, 1) := dk_3 (dk_at dksL_law_84 19 rfl rfl)
theorem dL_law_2092 : decode cL_law 2092 = .ok (.ireturn, 1) := dk_172 (dk_at dksL_law_84 20 rfl rfl)
theorem dL_law_2093 : decode cL_law 2093 = .ok (.iload 5, 2) := dk_21 5 (dk_at dksL_law_84 21 rfl rfl)
theorem dL_law_2095 : decode cL_law 2095 = .ok (.ifCond .ne 15, 3) := dk_154 0 15 (dk_at dksL_law_85 0 rfl rfl)
theorem dL_law_2098 : decode cL_law 2098 = .ok (.aload_n 3, 1) := dk_45 (dk_at dksL_law_85 3 rfl rfl)
theorem dL_law_2099 : decode cL_law 2099 = .ok (.iconst 0, 1) := dk_3 (dk_at dksL_law_85 4 rfl rfl)
theorem dL_law_2100 : decode cL_law 2100 = .ok (.laload, 1) := dk_47 (dk_at dksL_law_85 5 rfl rfl)
theorem dL_law_2101 : decode cL_law 2101 = .ok (.iload 6, 2) := dk_21 6 (dk_at dksL_law_85 6 rfl rfl)
theorem dL_law_2103 : decode cL_law 2103 = .ok (.i2l, 1) := dk_133 (dk_at dksL_law_85 8 rfl rfl)
theorem dL_law_2104 : decode cL_law 2104 = .ok (.lcmp, 1) := dk_148 (dk_at dksL_law_85 9 rfl rfl)
theorem dL_law_2105 : decode cL_law 2105 = .ok (.ifCond .eq 5, 3) := dk_153 0 5 (dk_at dksL_law_85 10 rfl rfl)
theorem dL_law_2108 : decode cL_law 2108 = .ok (.iconst 0, 1) := dk_3 (dk_at dksL_law_85 13 rfl rfl)
theorem dL_law_2109 : decode cL_law 2109 = .ok (.ireturn, 1) := dk_172 (dk_at dksL_law_85 14 rfl rfl)
theorem dL_law_2110 : decode cL_law 2110 = .ok (.goto 86, 3) := dk_167 0 86 (dk_at dksL_law_85 15 rfl rfl)
theorem dL_law_2113 : decode cL_law 2113 = .ok (.aload_n 1, 1) := dk_43 (dk_at dksL_law_85 18 rfl rfl)
theorem dL_law_2114 : decode cL_law 2114 = .ok (.aload_n 0, 1) := dk_42 (dk_at dksL_law_85 19 rfl rfl)
theorem dL_law_2115 : decode cL_law 2115 = .ok (.iload 4, 2) := dk_21 4 (dk_at dksL_law_85 20 rfl rfl)
theorem dL_law_2117 : decode cL_law 2117 = .ok (.iconst 1, 1) := dk_4 (dk_at dksL_law_85 22 rfl rfl)
theorem dL_law_2118 : decode cL_law 2118 = .ok (.iadd, 1) := dk_96 (dk_at dksL_law_85 23 rfl rfl)
theorem dL_law_2119 : decode cL_law 2119 = .ok (.iaload, 1) := dk_46 (dk_at dksL_law_86 0 rfl rfl)
theorem dL_law_2120 : decode cL_law 2120 = .ok (.invokevirtual 195, 3) := dk_182 0 195 (dk_at dksL_law_86 1 rfl rfl)
theorem dL_law_2123 : decode cL_law 2123 = .ok (.aload_n 2, 1) := dk_44 (dk_at dksL_law_86 4 rfl rfl)
theorem dL_law_2124 : decode cL_law 2124 = .ok (.aload_n 0, 1) := dk_42 (dk_at dksL_law_86 5 rfl rfl)
theorem dL_law_2125 : decode cL_law 2125 = .ok (.iload 4, 2) := dk_21 4 (dk_at dksL_law_86 6 rfl rfl)
theorem dL_law_2127 : decode cL_law 2127 = .ok (.iconst 1, 1) := dk_4 (dk_at dksL_law_86 8 rfl rfl)
theorem dL_law_2128 : decode cL_law 2128 = .ok (.iadd, 1) := dk_96 (dk_at dksL_law_86 9 rfl rfl)
theorem dL_law_2129 : decode cL_law 2129 = .ok (.iaload, 1) := dk_46 (dk_at dksL_law_86 10 rfl rfl)
theorem dL_law_2130 : decode cL_law 2130 = .ok (.invokevirtual 198, 3) := dk_182 0 198 (dk_at dksL_law_86 11 rfl rfl)
theorem dL_law_2133 : decode cL_law 2133 = .ok (.if_icmp .eq 63, 3) := dk_159 0 63 (dk_at dksL_law_86 14 rfl rfl)
theorem dL_law_2136 : decode cL_law 2136 = .ok (.iconst 0, 1) := dk_3 (dk_at dksL_law_86 17 rfl rfl)
theorem dL_law_2137 : decode cL_law 2137 = .ok (.ireturn, 1) := dk_172 (dk_at dksL_law_86 18 rfl rfl)
theorem dL_law_2138 : decode cL_law 2138 = .ok (.aload_n 1, 1) := dk_43 (dk_at dksL_law_86 19 rfl rfl)
theorem dL_law_2139 : decode cL_law 2139 = .ok (.aload_n 3, 1) := dk_45 (dk_at dksL_law_86 20 rfl rfl)
theorem dL_law_2140 : decode cL_law 2140 = .ok (.invokestatic 199, 3) := dk_184 0 199 (dk_at dksL_law_86 21 rfl rfl)
theorem dL_law_2143 : decode cL_law 2143 = .ok (.istore 5, 2) := dk_54 5 (dk_at dksL_law_87 0 rfl rfl)
theorem dL_law_2145 : decode cL_law 2145 = .ok (.aload_n 2, 1) := dk_44 (dk_at dksL_law_87 2 rfl rfl)
theorem dL_law_2146 : decode cL_law 2146 = .ok (.invokevirtual 202, 3) := dk_182 0 202 (dk_at dksL_law_87 3 rfl rfl)
theorem dL_law_2149 : decode cL_law 2149 = .ok (.istore 6, 2) := dk_54 6 (dk_at dksL_law_87 6 rfl rfl)
theorem dL_law_2151 : decode cL_law 2151 = .ok (.aload_n 2, 1) := dk_44 (dk_at dksL_law_87 8 rfl rfl)
theorem dL_law_2152 : decode cL_law 2152 = .ok (.invokevirtual 109, 3) := dk_182 0 109 (dk_at dksL_law_87 9 rfl rfl)
theorem dL_law_2155 : decode cL_law 2155 = .ok (.iload 5, 2) := dk_21 5 (dk_at dksL_law_87 12 rfl rfl)
theorem dL_law_2157 : decode cL_law 2157 = .ok (.if_icmp .eq 5, 3) := dk_159 0 5 (dk_at dksL_law_87 14 rfl rfl)
theorem dL_law_2160 : decode cL_law 2160 = .ok (.iconst 0, 1) := dk_3 (dk_at dksL_law_87 17 rfl rfl)
theorem dL_law_2161 : decode cL_law 2161 = .ok (.ireturn, 1) := dk_172 (dk_at dksL_law_87 18 rfl rfl)
theorem dL_law_2162 : decode cL_law 2162 = .ok (.iload 5, 2) := dk_21 5 (dk_at dksL_law_87 19 rfl rfl)
theorem dL_law_2164 : decode cL_law 2164 = .ok (.ifCond .ne 15, 3) := dk_154 0 15 (dk_at dksL_law_87 21 rfl rfl)
theorem dL_law_2167 : decode cL_law 2167 = .ok (.aload_n 3, 1) := dk_45 (dk_at dksL_law_88 0 rfl rfl)
theorem dL_law_2168 : decode cL_law 2168 = .ok (.iconst 0, 1) := dk_3 (dk_at dksL_law_88 1 rfl rfl)
theorem dL_law_2169 : decode cL_law 2169 = .ok (.laload, 1) := dk_47 (dk_at dksL_law_88 2 rfl rfl)
theorem dL_law_2170 : decode cL_law 2170 = .ok (.iload 6, 2) := dk_21 6 (dk_at dksL_law_88 3 rfl rfl)
theorem dL_law_2172 : decode cL_law 2172 = .ok (.i2l, 1) := dk_133 (dk_at dksL_law_88 5 rfl rfl)
theorem dL_law_2173 : decode cL_law 2173 = .ok (.lcmp, 1) := dk_148 (dk_at dksL_law_88 6 rfl rfl)
theorem dL_law_2174 : decode cL_law 2174 = .ok (.ifCond .eq 5, 3) := dk_153 0 5 (dk_at dksL_law_88 7 rfl rfl)
theorem dL_law_2177 : decode cL_law 2177 = .ok (.iconst 0, 1) := dk_3 (dk_at dksL_law_88 10 rfl rfl)
theorem dL_law_2178 : decode cL_law 2178 = .ok (.ireturn, 1) := dk_172 (dk_at dksL_law_88 11 rfl rfl)
theorem dL_law_2179 : decode cL_law 2179 = .ok (.goto 17, 3) := dk_167 0 17 (dk_at dksL_law_88 12 rfl rfl)
theorem dL_law_2182 : decode cL_law 2182 = .ok (.aload_n 1, 1) := dk_43 (dk_at dksL_law_88 15 rfl rfl)
theorem dL_law_2183 : decode cL_law 2183 = .ok (.invokevirtual 203, 3) := dk_182 0 203 (dk_at dksL_law_88 16 rfl rfl)
theorem dL_law_2186 : decode cL_law 2186 = .ok (.aload_n 2, 1) := dk_44 (dk_at dksL_law_88 19 rfl rfl)
theorem dL_law_2187 : decode cL_law 2187 = .ok (.invokevirtual 207, 3) := dk_182 0 207 (dk_at dksL_law_88 20 rfl rfl)
theorem dL_law_2190 : decode cL_law 2190 = .ok (.lcmp, 1) := dk_148 (dk_at dksL_law_88 23 rfl rfl)
theorem dL_law_2191 : decode cL_law 2191 = .ok (.ifCond .eq 5, 3) := dk_153 0 5 (dk_at dksL_law_89 0 rfl rfl)
theorem dL_law_2194 : decode cL_law 2194 = .ok (.iconst 0, 1) := dk_3 (dk_at dksL_law_89 3 rfl rfl)
theorem dL_law_2195 : decode cL_law 2195 = .ok (.ireturn, 1) := dk_172 (dk_at dksL_law_89 4 rfl rfl)
theorem dL_law_2196 : decode cL_law 2196 = .ok (.iinc 4 5, 3) := dk_132 4 5 (dk_at dksL_law_89 5 rfl rfl)
theorem dL_law_2199 : decode cL_law 2199 = .ok (.goto (-2176), 3) := dk_167 247 128 (dk_at dksL_law_89 8 rfl rfl)
theorem dL_law_2202 : decode cL_law 2202 = .ok (.iconst 1, 1) := dk_4 (dk_at dksL_law_89 11 rfl rfl)
theorem dL_law_2203 : decode cL_law 2203 = .ok (.ireturn, 1) := dk_172 (dk_at dksL_law_89 12 rfl rfl)
