/-! BoxSpansLaw -/
set_option maxRecDepth 100000
def RX0 : String := "BoxSpansLaw"
abbrev cX0_box : ByteArray := method_3_code
def yX0_box : MethodName := ⟨RX0, "box", "(LBoxSpans;I[J)I"⟩
def dkwX0_box_0 : List UInt8 := [44, 3, 42, 27, 182, 0, 7, 133, 80, 167, 0, 9, 78, 4, 172, 78, 5, 172, 3, 172]
abbrev dktX0_box_0 : List UInt8 := dkwX0_box_0 ++ []
theorem dksX0_box_0 : cX0_box.data.toList.drop 0 = dktX0_box_0 := by decide +kernel
theorem dX0_box_0 : decode cX0_box 0 = .ok (.aload_n 2, 1) := dk_44 (dk_at dksX0_box_0 0 rfl rfl)
theorem dX0_box_1 : decode cX0_box 1 = .ok (.iconst 0, 1) := dk_3 (dk_at dksX0_box_0 1 rfl rfl)
theorem dX0_box_2 : decode cX0_box 2 = .ok (.aload_n 0, 1) := dk_42 (dk_at dksX0_box_0 2 rfl rfl)
theorem dX0_box_3 : decode cX0_box 3 = .ok (.iload_n 1, 1) := dk_27 (dk_at dksX0_box_0 3 rfl rfl)
theorem dX0_box_4 : decode cX0_box 4 = .ok (.invokevirtual 7, 3) := dk_182 0 7 (dk_at dksX0_box_0 4 rfl rfl)
theorem dX0_box_7 : decode cX0_box 7 = .ok (.i2l, 1) := dk_133 (dk_at dksX0_box_0 7 rfl rfl)
theorem dX0_box_8 : decode cX0_box 8 = .ok (.lastore, 1) := dk_80 (dk_at dksX0_box_0 8 rfl rfl)
theorem dX0_box_9 : decode cX0_box 9 = .ok (.goto 9, 3) := dk_167 0 9 (dk_at dksX0_box_0 9 rfl rfl)
theorem dX0_box_12 : decode cX0_box 12 = .ok (.astore_n 3, 1) := dk_78 (dk_at dksX0_box_0 12 rfl rfl)
theorem dX0_box_13 : decode cX0_box 13 = .ok (.iconst 1, 1) := dk_4 (dk_at dksX0_box_0 13 rfl rfl)
theorem dX0_box_14 : decode cX0_box 14 = .ok (.ireturn, 1) := dk_172 (dk_at dksX0_box_0 14 rfl rfl)
theorem dX0_box_15 : decode cX0_box 15 = .ok (.astore_n 3, 1) := dk_78 (dk_at dksX0_box_0 15 rfl rfl)
theorem dX0_box_16 : decode cX0_box 16 = .ok (.iconst 2, 1) := dk_5 (dk_at dksX0_box_0 16 rfl rfl)
theorem dX0_box_17 : decode cX0_box 17 = .ok (.ireturn, 1) := dk_172 (dk_at dksX0_box_0 17 rfl rfl)
theorem dX0_box_18 : decode cX0_box 18 = .ok (.iconst 0, 1) := dk_3 (dk_at dksX0_box_0 18 rfl rfl)
theorem dX0_box_19 : decode cX0_box 19 = .ok (.ireturn, 1) := dk_172 (dk_at dksX0_box_0 19 rfl rfl)
abbrev cX0_let : ByteArray := method_4_code
def yX0_let : MethodName := ⟨RX0, "let", "(LBoxSpans;IIII[J)I"⟩
def dkwX0_let_1 : List UInt8 := [172, 58, 6, 6, 172, 3, 172]
abbrev dktX0_let_1 : List UInt8 := dkwX0_let_1 ++ []
def dkwX0_let_0 : List UInt8 := [25, 5, 3, 42, 27, 28, 29, 21, 4, 182, 0, 17, 133, 80, 167, 0, 15, 58, 6, 4, 172, 58, 6, 5]
abbrev dktX0_let_0 : List UInt8 := dkwX0_let_0 ++ dktX0_let_1
theorem dksX0_let_0 : cX0_let.data.toList.drop 0 = dktX0_let_0 := by decide +kernel
theorem dksX0_let_1 : cX0_let.data.toList.drop 24 = dktX0_let_1 := dk_seg dksX0_let_0 24 rfl rfl
theorem dX0_let_0 : decode cX0_let 0 = .ok (.aload 5, 2) := dk_25 5 (dk_at dksX0_let_0 0 rfl rfl)
theorem dX0_let_2 : decode cX0_let 2 = .ok (.iconst 0, 1) := dk_3 (dk_at dksX0_let_0 2 rfl rfl)
theorem dX0_let_3 : decode cX0_let 3 = .ok (.aload_n 0, 1) := dk_42 (dk_at dksX0_let_0 3 rfl rfl)
theorem dX0_let_4 : decode cX0_let 4 = .ok (.iload_n 1, 1) := dk_27 (dk_at dksX0_let_0 4 rfl rfl)
theorem dX0_let_5 : decode cX0_let 5 = .ok (.iload_n 2, 1) := dk_28 (dk_at dksX0_let_0 5 rfl rfl)
theorem dX0_let_6 : decode cX0_let 6 = .ok (.iload_n 3, 1) := dk_29 (dk_at dksX0_let_0 6 rfl rfl)
theorem dX0_let_7 : decode cX0_let 7 = .ok (.iload 4, 2) := dk_21 4 (dk_at dksX0_let_0 7 rfl rfl)
theorem dX0_let_9 : decode cX0_let 9 = .ok (.invokevirtual 17, 3) := dk_182 0 17 (dk_at dksX0_let_0 9 rfl rfl)
theorem dX0_let_12 : decode cX0_let 12 = .ok (.i2l, 1) := dk_133 (dk_at dksX0_let_0 12 rfl rfl)
theorem dX0_let_13 : decode cX0_let 13 = .ok (.lastore, 1) := dk_80 (dk_at dksX0_let_0 13 rfl rfl)
theorem dX0_let_14 : decode cX0_let 14 = .ok (.goto 15, 3) := dk_167 0 15 (dk_at dksX0_let_0 14 rfl rfl)
theorem dX0_let_17 : decode cX0_let 17 = .ok (.astore 6, 2) := dk_58 6 (dk_at dksX0_let_0 17 rfl rfl)
theorem dX0_let_19 : decode cX0_let 19 = .ok (.iconst 1, 1) := dk_4 (dk_at dksX0_let_0 19 rfl rfl)
theorem dX0_let_20 : decode cX0_let 20 = .ok (.ireturn, 1) := dk_172 (dk_at dksX0_let_0 20 rfl rfl)
theorem dX0_let_21 : decode cX0_let 21 = .ok (.astore 6, 2) := dk_58 6 (dk_at dksX0_let_0 21 rfl rfl)
theorem dX0_let_23 : decode cX0_let 23 = .ok (.iconst 2, 1) := dk_5 (dk_at dksX0_let_0 23 rfl rfl)
theorem dX0_let_24 : decode cX0_let 24 = .ok (.ireturn, 1) := dk_172 (dk_at dksX0_let_1 0 rfl rfl)
theorem dX0_let_25 : decode cX0_let 25 = .ok (.astore 6, 2) := dk_58 6 (dk_at dksX0_let_1 1 rfl rfl)
theorem dX0_let_27 : decode cX0_let 27 = .ok (.iconst 3, 1) := dk_6 (dk_at dksX0_let_1 3 rfl rfl)
theorem dX0_let_28 : decode cX0_let 28 = .ok (.ireturn, 1) := dk_172 (dk_at dksX0_let_1 4 rfl rfl)
theorem dX0_let_29 : decode cX0_let 29 = .ok (.iconst 0, 1) := dk_3 (dk_at dksX0_let_1 5 rfl rfl)
theorem dX0_let_30 : decode cX0_let 30 = .ok (.ireturn, 1) := dk_172 (dk_at dksX0_let_1 6 rfl rfl)
abbrev cX0_cancel : ByteArray := method_5_code
def yX0_cancel : MethodName := ⟨RX0, "cancel", "(LBoxSpans;I[J)I"⟩
def dkwX0_cancel_0 : List UInt8 := [44, 3, 42, 27, 182, 0, 23, 133, 80, 167, 0, 9, 78, 4, 172, 78, 5, 172, 3, 172]
abbrev dktX0_cancel_0 : List UInt8 := dkwX0_cancel_0 ++ []
theorem dksX0_cancel_0 : cX0_cancel.data.toList.drop 0 = dktX0_cancel_0 := by decide +kernel
theorem dX0_cancel_0 : decode cX0_cancel 0 = .ok (.aload_n 2, 1) := dk_44 (dk_at dksX0_cancel_0 0 rfl rfl)
theorem dX0_cancel_1 : decode cX0_cancel 1 = .ok (.iconst 0, 1) := dk_3 (dk_at dksX0_cancel_0 1 rfl rfl)
theorem dX0_cancel_2 : decode cX0_cancel 2 = .ok (.aload_n 0, 1) := dk_42 (dk_at dksX0_cancel_0 2 rfl rfl)
theorem dX0_cancel_3 : decode cX0_cancel 3 = .ok (.iload_n 1, 1) := dk_27 (dk_at dksX0_cancel_0 3 rfl rfl)
theorem dX0_cancel_4 : decode cX0_cancel 4 = .ok (.invokevirtual 23, 3) := dk_182 0 23 (dk_at dksX0_cancel_0 4 rfl rfl)
theorem dX0_cancel_7 : decode cX0_cancel 7 = .ok (.i2l, 1) := dk_133 (dk_at dksX0_cancel_0 7 rfl rfl)
theorem dX0_cancel_8 : decode cX0_cancel 8 = .ok (.lastore, 1) := dk_80 (dk_at dksX0_cancel_0 8 rfl rfl)
theorem dX0_cancel_9 : decode cX0_cancel 9 = .ok (.goto 9, 3) := dk_167 0 9 (dk_at dksX0_cancel_0 9 rfl rfl)
theorem dX0_cancel_12 : decode cX0_cancel 12 = .ok (.astore_n 3, 1) := dk_78 (dk_at dksX0_cancel_0 12 rfl rfl)
theorem dX0_cancel_13 : decode cX0_cancel 13 = .ok (.iconst 1, 1) := dk_4 (dk_at dksX0_cancel_0 13 rfl rfl)
theorem dX0_cancel_14 : decode cX0_cancel 14 = .ok (.ireturn, 1) := dk_172 (dk_at dksX0_cancel_0 14 rfl rfl)
theorem dX0_cancel_15 : decode cX0_cancel 15 = .ok (.astore_n 3, 1) := dk_78 (dk_at dksX0_cancel_0 15 rfl rfl)
theorem dX0_cancel_16 : decode cX0_cancel 16 = .ok (.iconst 2, 1) := dk_5 (dk_at dksX0_cancel_0 16 rfl rfl)
theorem dX0_cancel_17 : decode cX0_cancel 17 = .ok (.ireturn, 1) := dk_172 (dk_at dksX0_cancel_0 17 rfl rfl)
theorem dX0_cancel_18 : decode cX0_cancel 18 = .ok (.iconst 0, 1) := dk_3 (dk_at dksX0_cancel_0 18 rfl rfl)
theorem dX0_cancel_19 : decode cX0_cancel 19 = .ok (.ireturn, 1) := dk_172 (dk_at dksX0_cancel_0 19 rfl rfl)
abbrev cX0_move : ByteArray := method_6_code
def yX0_move : MethodName := ⟨RX0, "move", "(LBoxSpans;II[J)I"⟩
def dkwX0_move_1 : List UInt8 := [172, 3, 172]
abbrev dktX0_move_1 : List UInt8 := dkwX0_move_1 ++ []
def dkwX0_move_0 : List UInt8 := [45, 3, 42, 27, 28, 182, 0, 26, 133, 80, 167, 0, 15, 58, 4, 4, 172, 58, 4, 5, 172, 58, 4, 6]
abbrev dktX0_move_0 : List UInt8 := dkwX0_move_0 ++ dktX0_move_1
theorem dksX0_move_0 : cX0_move.data.toList.drop 0 = dktX0_move_0 := by decide +kernel
theorem dksX0_move_1 : cX0_move.data.toList.drop 24 = dktX0_move_1 := dk_seg dksX0_move_0 24 rfl rfl
theorem dX0_move_0 : decode cX0_move 0 = .ok (.aload_n 3, 1) := dk_45 (dk_at dksX0_move_0 0 rfl rfl)
theorem dX0_move_1 : decode cX0_move 1 = .ok (.iconst 0, 1) := dk_3 (dk_at dksX0_move_0 1 rfl rfl)
theorem dX0_move_2 : decode cX0_move 2 = .ok (.aload_n 0, 1) := dk_42 (dk_at dksX0_move_0 2 rfl rfl)
theorem dX0_move_3 : decode cX0_move 3 = .ok (.iload_n 1, 1) := dk_27 (dk_at dksX0_move_0 3 rfl rfl)
theorem dX0_move_4 : decode cX0_move 4 = .ok (.iload_n 2, 1) := dk_28 (dk_at dksX0_move_0 4 rfl rfl)
theorem dX0_move_5 : decode cX0_move 5 = .ok (.invokevirtual 26, 3) := dk_182 0 26 (dk_at dksX0_move_0 5 rfl rfl)
theorem dX0_move_8 : decode cX0_move 8 = .ok (.i2l, 1) := dk_133 (dk_at dksX0_move_0 8 rfl rfl)
theorem dX0_move_9 : decode cX0_move 9 = .ok (.lastore, 1) := dk_80 (dk_at dksX0_move_0 9 rfl rfl)
theorem dX0_move_10 : decode cX0_move 10 = .ok (.goto 15, 3) := dk_167 0 15 (dk_at dksX0_move_0 10 rfl rfl)
theorem dX0_move_13 : decode cX0_move 13 = .ok (.astore 4, 2) := dk_58 4 (dk_at dksX0_move_0 13 rfl rfl)
theorem dX0_move_15 : decode cX0_move 15 = .ok (.iconst 1, 1) := dk_4 (dk_at dksX0_move_0 15 rfl rfl)
theorem dX0_move_16 : decode cX0_move 16 = .ok (.ireturn, 1) := dk_172 (dk_at dksX0_move_0 16 rfl rfl)
theorem dX0_move_17 : decode cX0_move 17 = .ok (.astore 4, 2) := dk_58 4 (dk_at dksX0_move_0 17 rfl rfl)
theorem dX0_move_19 : decode cX0_move 19 = .ok (.iconst 2, 1) := dk_5 (dk_at dksX0_move_0 19 rfl rfl)
theorem dX0_move_20 : decode cX0_move 20 = .ok (.ireturn, 1) := dk_172 (dk_at dksX0_move_0 20 rfl rfl)
theorem dX0_move_21 : decode cX0_move 21 = .ok (.astore 4, 2) := dk_58 4 (dk_at dksX0_move_0 21 rfl rfl)
theorem dX0_move_23 : decode cX0_move 23 = .ok (.iconst 3, 1) := dk_6 (dk_at dksX0_move_0 23 rfl rfl)
theorem dX0_move_24 : decode cX0_move 24 = .ok (.ireturn, 1) := dk_172 (dk_at dksX0_move_1 0 rfl rfl)
theorem dX0_move_25 : decode cX0_move 25 = .ok (.iconst 0, 1) := dk_3 (dk_at dksX0_move_1 1 rfl rfl)
theorem dX0_move_26 : decode cX0_move 26 = .ok (.ireturn, 1) := dk_172 (dk_at dksX0_move_1 2 rfl rfl)
abbrev cX0_split : ByteArray := method_7_code
def yX0_split : MethodName := ⟨RX0, "split", "(LBoxSpans;II[J)I"⟩
def dkwX0_split_0 : List UInt8 := [45, 3, 42, 27, 28, 182, 0, 30, 133, 80, 167, 0, 11, 58, 4, 4, 172, 58, 4, 5, 172, 3, 172]
abbrev dktX0_split_0 : List UInt8 := dkwX0_split_0 ++ []
theorem dksX0_split_0 : cX0_split.data.toList.drop 0 = dktX0_split_0 := by decide +kernel
theorem dX0_split_0 : decode cX0_split 0 = .ok (.aload_n 3, 1) := dk_45 (dk_at dksX0_split_0 0 rfl rfl)
theorem dX0_split_1 : decode cX0_split 1 = .ok (.iconst 0, 1) := dk_3 (dk_at dksX0_split_0 1 rfl rfl)
theorem dX0_split_2 : decode cX0_split 2 = .ok (.aload_n 0, 1) := dk_42 (dk_at dksX0_split_0 2 rfl rfl)
theorem dX0_split_3 : decode cX0_split 3 = .ok (.iload_n 1, 1) := dk_27 (dk_at dksX0_split_0 3 rfl rfl)
theorem dX0_split_4 : decode cX0_split 4 = .ok (.iload_n 2, 1) := dk_28 (dk_at dksX0_split_0 4 rfl rfl)
theorem dX0_split_5 : decode cX0_split 5 = .ok (.invokevirtual 30, 3) := dk_182 0 30 (dk_at dksX0_split_0 5 rfl rfl)
theorem dX0_split_8 : decode cX0_split 8 = .ok (.i2l, 1) := dk_133 (dk_at dksX0_split_0 8 rfl rfl)
theorem dX0_split_9 : decode cX0_split 9 = .ok (.lastore, 1) := dk_80 (dk_at dksX0_split_0 9 rfl rfl)
theorem dX0_split_10 : decode cX0_split 10 = .ok (.goto 11, 3) := dk_167 0 11 (dk_at dksX0_split_0 10 rfl rfl)
theorem dX0_split_13 : decode cX0_split 13 = .ok (.astore 4, 2) := dk_58 4 (dk_at dksX0_split_0 13 rfl rfl)
theorem dX0_split_15 : decode cX0_split 15 = .ok (.iconst 1, 1) := dk_4 (dk_at dksX0_split_0 15 rfl rfl)
theorem dX0_split_16 : decode cX0_split 16 = .ok (.ireturn, 1) := dk_172 (dk_at dksX0_split_0 16 rfl rfl)
theorem dX0_split_17 : decode cX0_split 17 = .ok (.astore 4, 2) := dk_58 4 (dk_at dksX0_split_0 17 rfl rfl)
theorem dX0_split_19 : decode cX0_split 19 = .ok (.iconst 2, 1) := dk_5 (dk_at dksX0_split_0 19 rfl rfl)
theorem dX0_split_20 : decode cX0_split 20 = .ok (.ireturn, 1) := dk_172 (dk_at dksX0_split_0 20 rfl rfl)
theorem dX0_split_21 : decode cX0_split 21 = .ok (.iconst 0, 1) := dk_3 (dk_at dksX0_split_0 21 rfl rfl)
theorem dX0_split_22 : decode cX0_split 22 = .ok (.ireturn, 1) := dk_172 (dk_at dksX0_split_0 22 rfl rfl)
abbrev cX0_join : ByteArray := method_8_code
def yX0_join : MethodName := ⟨RX0, "join", "(LBoxSpans;II[J)I"⟩
def dkwX0_join_1 : List UInt8 := [172, 3, 172]
abbrev dktX0_join_1 : List UInt8 := dkwX0_join_1 ++ []
def dkwX0_join_0 : List UInt8 := [45, 3, 42, 27, 28, 182, 0, 33, 133, 80, 167, 0, 15, 58, 4, 4, 172, 58, 4, 5, 172, 58, 4, 6]
abbrev dktX0_join_0 : List UInt8 := dkwX0_join_0 ++ dktX0_join_1
theorem dksX0_join_0 : cX0_join.data.toList.drop 0 = dktX0_join_0 := by decide +kernel
theorem dksX0_join_1 : cX0_join.data.toList.drop 24 = dktX0_join_1 := dk_seg dksX0_join_0 24 rfl rfl
theorem dX0_join_0 : decode cX0_join 0 = .ok (.aload_n 3, 1) := dk_45 (dk_at dksX0_join_0 0 rfl rfl)
theorem dX0_join_1 : decode cX0_join 1 = .ok (.iconst 0, 1) := dk_3 (dk_at dksX0_join_0 1 rfl rfl)
theorem dX0_join_2 : decode cX0_join 2 = .ok (.aload_n 0, 1) := dk_42 (dk_at dksX0_join_0 2 rfl rfl)
theorem dX0_join_3 : decode cX0_join 3 = .ok (.iload_n 1, 1) := dk_27 (dk_at dksX0_join_0 3 rfl rfl)
theorem dX0_join_4 : decode cX0_join 4 = .ok (.iload_n 2, 1) := dk_28 (dk_at dksX0_join_0 4 rfl rfl)
theorem dX0_join_5 : decode cX0_join 5 = .ok (.invokevirtual 33, 3) := dk_182 0 33 (dk_at dksX0_join_0 5 rfl rfl)
theorem dX0_join_8 : decode cX0_join 8 = .ok (.i2l, 1) := dk_133 (dk_at dksX0_join_0 8 rfl rfl)
theorem dX0_join_9 : decode cX0_join 9 = .ok (.lastore, 1) := dk_80 (dk_at dksX0_join_0 9 rfl rfl)
theorem dX0_join_10 : decode cX0_join 10 = .ok (.goto 15, 3) := dk_167 0 15 (dk_at dksX0_join_0 10 rfl rfl)
theorem dX0_join_13 : decode cX0_join 13 = .ok (.astore 4, 2) := dk_58 4 (dk_at dksX0_join_0 13 rfl rfl)
theorem dX0_join_15 : decode cX0_join 15 = .ok (.iconst 1, 1) := dk_4 (dk_at dksX0_join_0 15 rfl rfl)
theorem dX0_join_16 : decode cX0_join 16 = .ok (.ireturn, 1) := dk_172 (dk_at dksX0_join_0 16 rfl rfl)
theorem dX0_join_17 : decode cX0_join 17 = .ok (.astore 4, 2) := dk_58 4 (dk_at dksX0_join_0 17 rfl rfl)
theorem dX0_join_19 : decode cX0_join 19 = .ok (.iconst 2, 1) := dk_5 (dk_at dksX0_join_0 19 rfl rfl)
theorem dX0_join_20 : decode cX0_join 20 = .ok (.ireturn, 1) := dk_172 (dk_at dksX0_join_0 20 rfl rfl)
theorem dX0_join_21 : decode cX0_join 21 = .ok (.astore 4, 2) := dk_58 4 (dk_at dksX0_join_0 21 rfl rfl)
theorem dX0_join_23 : decode cX0_join 23 = .ok (.iconst 3, 1) := dk_6 (dk_at dksX0_join_0 23 rfl rfl)
theorem dX0_join_24 : decode cX0_join 24 = .ok (.ireturn, 1) := dk_172 (dk_at dksX0_join_1 0 rfl rfl)
theorem dX0_join_25 : decode cX0_join 25 = .ok (.iconst 0, 1) := dk_3 (dk_at dksX0_join_1 1 rfl rfl)
theorem dX0_join_26 : decode cX0_join 26 = .ok (.ireturn, 1) := dk_172 (dk_at dksX0_join_1 2 rfl rfl)
abbrev cX0_lettingOf : ByteArray := method_9_code
def yX0_lettingOf : MethodName := ⟨RX0, "lettingOf", "(LBoxSpans;II[J)I"⟩
def dkwX0_lettingOf_0 : List UInt8 := [45, 3, 42, 27, 28, 182, 0, 36, 133, 80, 167, 0, 11, 58, 4, 4, 172, 58, 4, 5, 172, 3, 172]
abbrev dktX0_lettingOf_0 : List UInt8 := dkwX0_lettingOf_0 ++ []
theorem dksX0_lettingOf_0 : cX0_lettingOf.data.toList.drop 0 = dktX0_lettingOf_0 := by decide +kernel
theorem dX0_lettingOf_0 : decode cX0_lettingOf 0 = .ok (.aload_n 3, 1) := dk_45 (dk_at dksX0_lettingOf_0 0 rfl rfl)
theorem dX0_lettingOf_1 : decode cX0_lettingOf 1 = .ok (.iconst 0, 1) := dk_3 (dk_at dksX0_lettingOf_0 1 rfl rfl)
theorem dX0_lettingOf_2 : decode cX0_lettingOf 2 = .ok (.aload_n 0, 1) := dk_42 (dk_at dksX0_lettingOf_0 2 rfl rfl)
theorem dX0_lettingOf_3 : decode cX0_lettingOf 3 = .ok (.iload_n 1, 1) := dk_27 (dk_at dksX0_lettingOf_0 3 rfl rfl)
theorem dX0_lettingOf_4 : decode cX0_lettingOf 4 = .ok (.iload_n 2, 1) := dk_28 (dk_at dksX0_lettingOf_0 4 rfl rfl)
theorem dX0_lettingOf_5 : decode cX0_lettingOf 5 = .ok (.invokevirtual 36, 3) := dk_182 0 36 (dk_at dksX0_lettingOf_0 5 rfl rfl)
theorem dX0_lettingOf_8 : decode cX0_lettingOf 8 = .ok (.i2l, 1) := dk_133 (dk_at dksX0_lettingOf_0 8 rfl rfl)
theorem dX0_lettingOf_9 : decode cX0_lettingOf 9 = .ok (.lastore, 1) := dk_80 (dk_at dksX0_lettingOf_0 9 rfl rfl)
theorem dX0_lettingOf_10 : decode cX0_lettingOf 10 = .ok (.goto 11, 3) := dk_167 0 11 (dk_at dksX0_lettingOf_0 10 rfl rfl)
theorem dX0_lettingOf_13 : decode cX0_lettingOf 13 = .ok (.astore 4, 2) := dk_58 4 (dk_at dksX0_lettingOf_0 13 rfl rfl)
theorem dX0_lettingOf_15 : decode cX0_lettingOf 15 = .ok (.iconst 1, 1) := dk_4 (dk_at dksX0_lettingOf_0 15 rfl rfl)
theorem dX0_lettingOf_16 : decode cX0_lettingOf 16 = .ok (.ireturn, 1) := dk_172 (dk_at dksX0_lettingOf_0 16 rfl rfl)
theorem dX0_lettingOf_17 : decode cX0_lettingOf 17 = .ok (.astore 4, 2) := dk_58 4 (dk_at dksX0_lettingOf_0 17 rfl rfl)
theorem dX0_lettingOf_19 : decode cX0_lettingOf 19 = .ok (.iconst 2, 1) := dk_5 (dk_at dksX0_lettingOf_0 19 rfl rfl)
theorem dX0_lettingOf_20 : decode cX0_lettingOf 20 = .ok (.ireturn, 1) := dk_172 (dk_at dksX0_lettingOf_0 20 rfl rfl)
theorem dX0_lettingOf_21 : decode cX0_lettingOf 21 = .ok (.iconst 0, 1) := dk_3 (dk_at dksX0_lettingOf_0 21 rfl rfl)
theorem dX0_lettingOf_22 : decode cX0_lettingOf 22 = .ok (.ireturn, 1) := dk_172 (dk_at dksX0_lettingOf_0 22 rfl rfl)
abbrev cX0_at : ByteArray := method_10_code
def yX0_at : MethodName := ⟨RX0, "at", "(LBoxSpans;II[J)I"⟩
def dkwX0_at_0 : List UInt8 := [45, 3, 42, 27, 28, 182, 0, 39, 133, 80, 167, 0, 11, 58, 4, 4, 172, 58, 4, 5, 172, 3, 172]
abbrev dktX0_at_0 : List UInt8 := dkwX0_at_0 ++ []
theorem dksX0_at_0 : cX0_at.data.toList.drop 0 = dktX0_at_0 := by decide +kernel
theorem dX0_at_0 : decode cX0_at 0 = .ok (.aload_n 3, 1) := dk_45 (dk_at dksX0_at_0 0 rfl rfl)
theorem dX0_at_1 : decode cX0_at 1 = .ok (.iconst 0, 1) := dk_3 (dk_at dksX0_at_0 1 rfl rfl)
theorem dX0_at_2 : decode cX0_at 2 = .ok (.aload_n 0, 1) := dk_42 (dk_at dksX0_at_0 2 rfl rfl)
theorem dX0_at_3 : decode cX0_at 3 = .ok (.iload_n 1, 1) := dk_27 (dk_at dksX0_at_0 3 rfl rfl)
theorem dX0_at_4 : decode cX0_at 4 = .ok (.iload_n 2, 1) := dk_28 (dk_at dksX0_at_0 4 rfl rfl)
theorem dX0_at_5 : decode cX0_at 5 = .ok (.invokevirtual 39, 3) := dk_182 0 39 (dk_at dksX0_at_0 5 rfl rfl)
theorem dX0_at_8 : decode cX0_at 8 = .ok (.i2l, 1) := dk_133 (dk_at dksX0_at_0 8 rfl rfl)
theorem dX0_at_9 : decode cX0_at 9 = .ok (.lastore, 1) := dk_80 (dk_at dksX0_at_0 9 rfl rfl)
theorem dX0_at_10 : decode cX0_at 10 = .ok (.goto 11, 3) := dk_167 0 11 (dk_at dksX0_at_0 10 rfl rfl)
theorem dX0_at_13 : decode cX0_at 13 = .ok (.astore 4, 2) := dk_58 4 (dk_at dksX0_at_0 13 rfl rfl)
theorem dX0_at_15 : decode cX0_at 15 = .ok (.iconst 1, 1) := dk_4 (dk_at dksX0_at_0 15 rfl rfl)
theorem dX0_at_16 : decode cX0_at 16 = .ok (.ireturn, 1) := dk_172 (dk_at dksX0_at_0 16 rfl rfl)
theorem dX0_at_17 : decode cX0_at 17 = .ok (.astore 4, 2) := dk_58 4 (dk_at dksX0_at_0 17 rfl rfl)
theorem dX0_at_19 : decode cX0_at 19 = .ok (.iconst 2, 1) := dk_5 (dk_at dksX0_at_0 19 rfl rfl)
theorem dX0_at_20 : decode cX0_at 20 = .ok (.ireturn, 1) := dk_172 (dk_at dksX0_at_0 20 rfl rfl)
theorem dX0_at_21 : decode cX0_at 21 = .ok (.iconst 0, 1) := dk_3 (dk_at dksX0_at_0 21 rfl rfl)
theorem dX0_at_22 : decode cX0_at 22 = .ok (.ireturn, 1) := dk_172 (dk_at dksX0_at_0 22 rfl rfl)
abbrev cX0_wish : ByteArray := method_11_code
def yX0_wish : MethodName := ⟨RX0, "wish", "(LBoxSpans;III[J)I"⟩
def dkwX0_wish_1 : List UInt8 := [172]
abbrev dktX0_wish_1 : List UInt8 := dkwX0_wish_1 ++ []
def dkwX0_wish_0 : List UInt8 := [25, 4, 3, 42, 27, 28, 29, 182, 0, 42, 133, 80, 167, 0, 11, 58, 5, 4, 172, 58, 5, 5, 172, 3]
abbrev dktX0_wish_0 : List UInt8 := dkwX0_wish_0 ++ dktX0_wish_1
theorem dksX0_wish_0 : cX0_wish.data.toList.drop 0 = dktX0_wish_0 := by decide +kernel
theorem dksX0_wish_1 : cX0_wish.data.toList.drop 24 = dktX0_wish_1 := dk_seg dksX0_wish_0 24 rfl rfl
theorem dX0_wish_0 : decode cX0_wish 0 = .ok (.aload 4, 2) := dk_25 4 (dk_at dksX0_wish_0 0 rfl rfl)
theorem dX0_wish_2 : decode cX0_wish 2 = .ok (.iconst 0, 1) := dk_3 (dk_at dksX0_wish_0 2 rfl rfl)
theorem dX0_wish_3 : decode cX0_wish 3 = .ok (.aload_n 0, 1) := dk_42 (dk_at dksX0_wish_0 3 rfl rfl)
theorem dX0_wish_4 : decode cX0_wish 4 = .ok (.iload_n 1, 1) := dk_27 (dk_at dksX0_wish_0 4 rfl rfl)
theorem dX0_wish_5 : decode cX0_wish 5 = .ok (.iload_n 2, 1) := dk_28 (dk_at dksX0_wish_0 5 rfl rfl)
theorem dX0_wish_6 : decode cX0_wish 6 = .ok (.iload_n 3, 1) := dk_29 (dk_at dksX0_wish_0 6 rfl rfl)
theorem dX0_wish_7 : decode cX0_wish 7 = .ok (.invokevirtual 42, 3) := dk_182 0 42 (dk_at dksX0_wish_0 7 rfl rfl)
theorem dX0_wish_10 : decode cX0_wish 10 = .ok (.i2l, 1) := dk_133 (dk_at dksX0_wish_0 10 rfl rfl)
theorem dX0_wish_11 : decode cX0_wish 11 = .ok (.lastore, 1) := dk_80 (dk_at dksX0_wish_0 11 rfl rfl)
theorem dX0_wish_12 : decode cX0_wish 12 = .ok (.goto 11, 3) := dk_167 0 11 (dk_at dksX0_wish_0 12 rfl rfl)
theorem dX0_wish_15 : decode cX0_wish 15 = .ok (.astore 5, 2) := dk_58 5 (dk_at dksX0_wish_0 15 rfl rfl)
theorem dX0_wish_17 : decode cX0_wish 17 = .ok (.iconst 1, 1) := dk_4 (dk_at dksX0_wish_0 17 rfl rfl)
theorem dX0_wish_18 : decode cX0_wish 18 = .ok (.ireturn, 1) := dk_172 (dk_at dksX0_wish_0 18 rfl rfl)
theorem dX0_wish_19 : decode cX0_wish 19 = .ok (.astore 5, 2) := dk_58 5 (dk_at dksX0_wish_0 19 rfl rfl)
theorem dX0_wish_21 : decode cX0_wish 21 = .ok (.iconst 2, 1) := dk_5 (dk_at dksX0_wish_0 21 rfl rfl)
theorem dX0_wish_22 : decode cX0_wish 22 = .ok (.ireturn, 1) := dk_172 (dk_at dksX0_wish_0 22 rfl rfl)
theorem dX0_wish_23 : decode cX0_wish 23 = .ok (.iconst 0, 1) := dk_3 (dk_at dksX0_wish_0 23 rfl rfl)
theorem dX0_wish_24 : decode cX0_wish 24 = .ok (.ireturn, 1) := dk_172 (dk_at dksX0_wish_1 0 rfl rfl)
abbrev cX0_drop : ByteArray := method_12_code
def yX0_drop : MethodName := ⟨RX0, "drop", "(LBoxSpans;I[J)I"⟩
def dkwX0_drop_0 : List UInt8 := [44, 3, 42, 27, 182, 0, 46, 133, 80, 167, 0, 6, 78, 4, 172, 3, 172]
abbrev dktX0_drop_0 : List UInt8 := dkwX0_drop_0 ++ []
theorem dksX0_drop_0 : cX0_drop.data.toList.drop 0 = dktX0_drop_0 := by decide +kernel
theorem dX0_drop_0 : decode cX0_drop 0 = .ok (.aload_n 2, 1) := dk_44 (dk_at dksX0_drop_0 0 rfl rfl)
theorem dX0_drop_1 : decode cX0_drop 1 = .ok (.iconst 0, 1) := dk_3 (dk_at dksX0_drop_0 1 rfl rfl)
theorem dX0_drop_2 : decode cX0_drop 2 = .ok (.aload_n 0, 1) := dk_42 (dk_at dksX0_drop_0 2 rfl rfl)
theorem dX0_drop_3 : decode cX0_drop 3 = .ok (.iload_n 1, 1) := dk_27 (dk_at dksX0_drop_0 3 rfl rfl)
theorem dX0_drop_4 : decode cX0_drop 4 = .ok (.invokevirtual 46, 3) := dk_182 0 46 (dk_at dksX0_drop_0 4 rfl rfl)
theorem dX0_drop_7 : decode cX0_drop 7 = .ok (.i2l, 1) := dk_133 (dk_at dksX0_drop_0 7 rfl rfl)
theorem dX0_drop_8 : decode cX0_drop 8 = .ok (.lastore, 1) := dk_80 (dk_at dksX0_drop_0 8 rfl rfl)
theorem dX0_drop_9 : decode cX0_drop 9 = .ok (.goto 6, 3) := dk_167 0 6 (dk_at dksX0_drop_0 9 rfl rfl)
theorem dX0_drop_12 : decode cX0_drop 12 = .ok (.astore_n 3, 1) := dk_78 (dk_at dksX0_drop_0 12 rfl rfl)
theorem dX0_drop_13 : decode cX0_drop 13 = .ok (.iconst 1, 1) := dk_4 (dk_at dksX0_drop_0 13 rfl rfl)
theorem dX0_drop_14 : decode cX0_drop 14 = .ok (.ireturn, 1) := dk_172 (dk_at dksX0_drop_0 14 rfl rfl)
theorem dX0_drop_15 : decode cX0_drop 15 = .ok (.iconst 0, 1) := dk_3 (dk_at dksX0_drop_0 15 rfl rfl)
theorem dX0_drop_16 : decode cX0_drop 16 = .ok (.ireturn, 1) := dk_172 (dk_at dksX0_drop_0 16 rfl rfl)
abbrev cX0_wishOf : ByteArray := method_13_code
def yX0_wishOf : MethodName := ⟨RX0, "wishOf", "(LBoxSpans;II[J)I"⟩
def dkwX0_wishOf_0 : List UInt8 := [45, 3, 42, 27, 28, 182, 0, 49, 133, 80, 167, 0, 11, 58, 4, 4, 172, 58, 4, 5, 172, 3, 172]
abbrev dktX0_wishOf_0 : List UInt8 := dkwX0_wishOf_0 ++ []
theorem dksX0_wishOf_0 : cX0_wishOf.data.toList.drop 0 = dktX0_wishOf_0 := by decide +kernel
theorem dX0_wishOf_0 : decode cX0_wishOf 0 = .ok (.aload_n 3, 1) := dk_45 (dk_at dksX0_wishOf_0 0 rfl rfl)
theorem dX0_wishOf_1 : decode cX0_wishOf 1 = .ok (.iconst 0, 1) := dk_3 (dk_at dksX0_wishOf_0 1 rfl rfl)
theorem dX0_wishOf_2 : decode cX0_wishOf 2 = .ok (.aload_n 0, 1) := dk_42 (dk_at dksX0_wishOf_0 2 rfl rfl)
theorem dX0_wishOf_3 : decode cX0_wishOf 3 = .ok (.iload_n 1, 1) := dk_27 (dk_at dksX0_wishOf_0 3 rfl rfl)
theorem dX0_wishOf_4 : decode cX0_wishOf 4 = .ok (.iload_n 2, 1) := dk_28 (dk_at dksX0_wishOf_0 4 rfl rfl)
theorem dX0_wishOf_5 : decode cX0_wishOf 5 = .ok (.invokevirtual 49, 3) := dk_182 0 49 (dk_at dksX0_wishOf_0 5 rfl rfl)
theorem dX0_wishOf_8 : decode cX0_wishOf 8 = .ok (.i2l, 1) := dk_133 (dk_at dksX0_wishOf_0 8 rfl rfl)
theorem dX0_wishOf_9 : decode cX0_wishOf 9 = .ok (.lastore, 1) := dk_80 (dk_at dksX0_wishOf_0 9 rfl rfl)
theorem dX0_wishOf_10 : decode cX0_wishOf 10 = .ok (.goto 11, 3) := dk_167 0 11 (dk_at dksX0_wishOf_0 10 rfl rfl)
theorem dX0_wishOf_13 : decode cX0_wishOf 13 = .ok (.astore 4, 2) := dk_58 4 (dk_at dksX0_wishOf_0 13 rfl rfl)
theorem dX0_wishOf_15 : decode cX0_wishOf 15 = .ok (.iconst 1, 1) := dk_4 (dk_at dksX0_wishOf_0 15 rfl rfl)
theorem dX0_wishOf_16 : decode cX0_wishOf 16 = .ok (.ireturn, 1) := dk_172 (dk_at dksX0_wishOf_0 16 rfl rfl)
theorem dX0_wishOf_17 : decode cX0_wishOf 17 = .ok (.astore 4, 2) := dk_58 4 (dk_at dksX0_wishOf_0 17 rfl rfl)
theorem dX0_wishOf_19 : decode cX0_wishOf 19 = .ok (.iconst 2, 1) := dk_5 (dk_at dksX0_wishOf_0 19 rfl rfl)
theorem dX0_wishOf_20 : decode cX0_wishOf 20 = .ok (.ireturn, 1) := dk_172 (dk_at dksX0_wishOf_0 20 rfl rfl)
theorem dX0_wishOf_21 : decode cX0_wishOf 21 = .ok (.iconst 0, 1) := dk_3 (dk_at dksX0_wishOf_0 21 rfl rfl)
theorem dX0_wishOf_22 : decode cX0_wishOf 22 = .ok (.ireturn, 1) := dk_172 (dk_at dksX0_wishOf_0 22 rfl rfl)
abbrev cX0_over : ByteArray := method_14_code
def yX0_over : MethodName := ⟨RX0, "over", "(LBoxSpans;I[J)I"⟩
def dkwX0_over_0 : List UInt8 := [44, 3, 42, 27, 182, 0, 52, 133, 80, 167, 0, 6, 78, 4, 172, 3, 172]
abbrev dktX0_over_0 : List UInt8 := dkwX0_over_0 ++ []
theorem dksX0_over_0 : cX0_over.data.toList.drop 0 = dktX0_over_0 := by decide +kernel
theorem dX0_over_0 : decode cX0_over 0 = .ok (.aload_n 2, 1) := dk_44 (dk_at dksX0_over_0 0 rfl rfl)
theorem dX0_over_1 : decode cX0_over 1 = .ok (.iconst 0, 1) := dk_3 (dk_at dksX0_over_0 1 rfl rfl)
theorem dX0_over_2 : decode cX0_over 2 = .ok (.aload_n 0, 1) := dk_42 (dk_at dksX0_over_0 2 rfl rfl)
theorem dX0_over_3 : decode cX0_over 3 = .ok (.iload_n 1, 1) := dk_27 (dk_at dksX0_over_0 3 rfl rfl)
theorem dX0_over_4 : decode cX0_over 4 = .ok (.invokevirtual 52, 3) := dk_182 0 52 (dk_at dksX0_over_0 4 rfl rfl)
theorem dX0_over_7 : decode cX0_over 7 = .ok (.i2l, 1) := dk_133 (dk_at dksX0_over_0 7 rfl rfl)
theorem dX0_over_8 : decode cX0_over 8 = .ok (.lastore, 1) := dk_80 (dk_at dksX0_over_0 8 rfl rfl)
theorem dX0_over_9 : decode cX0_over 9 = .ok (.goto 6, 3) := dk_167 0 6 (dk_at dksX0_over_0 9 rfl rfl)
theorem dX0_over_12 : decode cX0_over 12 = .ok (.astore_n 3, 1) := dk_78 (dk_at dksX0_over_0 12 rfl rfl)
theorem dX0_over_13 : decode cX0_over 13 = .ok (.iconst 1, 1) := dk_4 (dk_at dksX0_over_0 13 rfl rfl)
theorem dX0_over_14 : decode cX0_over 14 = .ok (.ireturn, 1) := dk_172 (dk_at dksX0_over_0 14 rfl rfl)
theorem dX0_over_15 : decode cX0_over 15 = .ok (.iconst 0, 1) := dk_3 (dk_at dksX0_over_0 15 rfl rfl)
theorem dX0_over_16 : decode cX0_over 16 = .ok (.ireturn, 1) := dk_172 (dk_at dksX0_over_0 16 rfl rfl)
abbrev cX0_overAgain : ByteArray := method_15_code
def yX0_overAgain : MethodName := ⟨RX0, "overAgain", "(LBoxSpans;I[J)I"⟩
def dkwX0_overAgain_0 : List UInt8 := [44, 3, 42, 27, 182, 0, 55, 133, 80, 167, 0, 6, 78, 4, 172, 3, 172]
abbrev dktX0_overAgain_0 : List UInt8 := dkwX0_overAgain_0 ++ []
theorem dksX0_overAgain_0 : cX0_overAgain.data.toList.drop 0 = dktX0_overAgain_0 := by decide +kernel
theorem dX0_overAgain_0 : decode cX0_overAgain 0 = .ok (.aload_n 2, 1) := dk_44 (dk_at dksX0_overAgain_0 0 rfl rfl)
theorem dX0_overAgain_1 : decode cX0_overAgain 1 = .ok (.iconst 0, 1) := dk_3 (dk_at dksX0_overAgain_0 1 rfl rfl)
theorem dX0_overAgain_2 : decode cX0_overAgain 2 = .ok (.aload_n 0, 1) := dk_42 (dk_at dksX0_overAgain_0 2 rfl rfl)
theorem dX0_overAgain_3 : decode cX0_overAgain 3 = .ok (.iload_n 1, 1) := dk_27 (dk_at dksX0_overAgain_0 3 rfl rfl)
theorem dX0_overAgain_4 : decode cX0_overAgain 4 = .ok (.invokevirtual 55, 3) := dk_182 0 55 (dk_at dksX0_overAgain_0 4 rfl rfl)
theorem dX0_overAgain_7 : decode cX0_overAgain 7 = .ok (.i2l, 1) := dk_133 (dk_at dksX0_overAgain_0 7 rfl rfl)
theorem dX0_overAgain_8 : decode cX0_overAgain 8 = .ok (.lastore, 1) := dk_80 (dk_at dksX0_overAgain_0 8 rfl rfl)
theorem dX0_overAgain_9 : decode cX0_overAgain 9 = .ok (.goto 6, 3) := dk_167 0 6 (dk_at dksX0_overAgain_0 9 rfl rfl)
theorem dX0_overAgain_12 : decode cX0_overAgain 12 = .ok (.astore_n 3, 1) := dk_78 (dk_at dksX0_overAgain_0 12 rfl rfl)
theorem dX0_overAgain_13 : decode cX0_overAgain 13 = .ok (.iconst 1, 1) := dk_4 (dk_at dksX0_overAgain_0 13 rfl rfl)
theorem dX0_overAgain_14 : decode cX0_overAgain 14 = .ok (.ireturn, 1) := dk_172 (dk_at dksX0_overAgain_0 14 rfl rfl)
theorem dX0_overAgain_15 : decode cX0_overAgain 15 = .ok (.iconst 0, 1) := dk_3 (dk_at dksX0_overAgain_0 15 rfl rfl)
theorem dX0_overAgain_16 : decode cX0_overAgain 16 = .ok (.ireturn, 1) := dk_172 (dk_at dksX0_overAgain_0 16 rfl rfl)
abbrev cX0_busiest : ByteArray := method_16_code
def yX0_busiest : MethodName := ⟨RX0, "busiest", "(LBoxSpans;[J)I"⟩
def dkwX0_busiest_0 : List UInt8 := [43, 3, 42, 182, 0, 58, 133, 80, 167, 0, 6, 77, 4, 172, 3, 172]
abbrev dktX0_busiest_0 : List UInt8 := dkwX0_busiest_0 ++ []
theorem dksX0_busiest_0 : cX0_busiest.data.toList.drop 0 = dktX0_busiest_0 := by decide +kernel
theorem dX0_busiest_0 : decode cX0_busiest 0 = .ok (.aload_n 1, 1) := dk_43 (dk_at dksX0_busiest_0 0 rfl rfl)
theorem dX0_busiest_1 : decode cX0_busiest 1 = .ok (.iconst 0, 1) := dk_3 (dk_at dksX0_busiest_0 1 rfl rfl)
theorem dX0_busiest_2 : decode cX0_busiest 2 = .ok (.aload_n 0, 1) := dk_42 (dk_at dksX0_busiest_0 2 rfl rfl)
theorem dX0_busiest_3 : decode cX0_busiest 3 = .ok (.invokevirtual 58, 3) := dk_182 0 58 (dk_at dksX0_busiest_0 3 rfl rfl)
theorem dX0_busiest_6 : decode cX0_busiest 6 = .ok (.i2l, 1) := dk_133 (dk_at dksX0_busiest_0 6 rfl rfl)
theorem dX0_busiest_7 : decode cX0_busiest 7 = .ok (.lastore, 1) := dk_80 (dk_at dksX0_busiest_0 7 rfl rfl)
theorem dX0_busiest_8 : decode cX0_busiest 8 = .ok (.goto 6, 3) := dk_167 0 6 (dk_at dksX0_busiest_0 8 rfl rfl)
theorem dX0_busiest_11 : decode cX0_busiest 11 = .ok (.astore_n 2, 1) := dk_77 (dk_at dksX0_busiest_0 11 rfl rfl)
theorem dX0_busiest_12 : decode cX0_busiest 12 = .ok (.iconst 1, 1) := dk_4 (dk_at dksX0_busiest_0 12 rfl rfl)
theorem dX0_busiest_13 : decode cX0_busiest 13 = .ok (.ireturn, 1) := dk_172 (dk_at dksX0_busiest_0 13 rfl rfl)
theorem dX0_busiest_14 : decode cX0_busiest 14 = .ok (.iconst 0, 1) := dk_3 (dk_at dksX0_busiest_0 14 rfl rfl)
theorem dX0_busiest_15 : decode cX0_busiest 15 = .ok (.ireturn, 1) := dk_172 (dk_at dksX0_busiest_0 15 rfl rfl)
abbrev cX0_allot : ByteArray := method_17_code
def yX0_allot : MethodName := ⟨RX0, "allot", "(LBoxSpans;[J)I"⟩
def dkwX0_allot_0 : List UInt8 := [43, 3, 42, 182, 0, 64, 133, 80, 167, 0, 6, 77, 4, 172, 3, 172]
abbrev dktX0_allot_0 : List UInt8 := dkwX0_allot_0 ++ []
theorem dksX0_allot_0 : cX0_allot.data.toList.drop 0 = dktX0_allot_0 := by decide +kernel
theorem dX0_allot_0 : decode cX0_allot 0 = .ok (.aload_n 1, 1) := dk_43 (dk_at dksX0_allot_0 0 rfl rfl)
theorem dX0_allot_1 : decode cX0_allot 1 = .ok (.iconst 0, 1) := dk_3 (dk_at dksX0_allot_0 1 rfl rfl)
theorem dX0_allot_2 : decode cX0_allot 2 = .ok (.aload_n 0, 1) := dk_42 (dk_at dksX0_allot_0 2 rfl rfl)
theorem dX0_allot_3 : decode cX0_allot 3 = .ok (.invokevirtual 64, 3) := dk_182 0 64 (dk_at dksX0_allot_0 3 rfl rfl)
theorem dX0_allot_6 : decode cX0_allot 6 = .ok (.i2l, 1) := dk_133 (dk_at dksX0_allot_0 6 rfl rfl)
theorem dX0_allot_7 : decode cX0_allot 7 = .ok (.lastore, 1) := dk_80 (dk_at dksX0_allot_0 7 rfl rfl)
theorem dX0_allot_8 : decode cX0_allot 8 = .ok (.goto 6, 3) := dk_167 0 6 (dk_at dksX0_allot_0 8 rfl rfl)
theorem dX0_allot_11 : decode cX0_allot 11 = .ok (.astore_n 2, 1) := dk_77 (dk_at dksX0_allot_0 11 rfl rfl)
theorem dX0_allot_12 : decode cX0_allot 12 = .ok (.iconst 1, 1) := dk_4 (dk_at dksX0_allot_0 12 rfl rfl)
theorem dX0_allot_13 : decode cX0_allot 13 = .ok (.ireturn, 1) := dk_172 (dk_at dksX0_allot_0 13 rfl rfl)
theorem dX0_allot_14 : decode cX0_allot 14 = .ok (.iconst 0, 1) := dk_3 (dk_at dksX0_allot_0 14 rfl rfl)
theorem dX0_allot_15 : decode cX0_allot 15 = .ok (.ireturn, 1) := dk_172 (dk_at dksX0_allot_0 15 rfl rfl)
abbrev cX0_boxOf : ByteArray := method_18_code
def yX0_boxOf : MethodName := ⟨RX0, "boxOf", "(LBoxSpans;II[J)I"⟩
def dkwX0_boxOf_0 : List UInt8 := [45, 3, 42, 27, 28, 182, 0, 67, 133, 80, 167, 0, 11, 58, 4, 4, 172, 58, 4, 5, 172, 3, 172]
abbrev dktX0_boxOf_0 : List UInt8 := dkwX0_boxOf_0 ++ []
theorem dksX0_boxOf_0 : cX0_boxOf.data.toList.drop 0 = dktX0_boxOf_0 := by decide +kernel
theorem dX0_boxOf_0 : decode cX0_boxOf 0 = .ok (.aload_n 3, 1) := dk_45 (dk_at dksX0_boxOf_0 0 rfl rfl)
theorem dX0_boxOf_1 : decode cX0_boxOf 1 = .ok (.iconst 0, 1) := dk_3 (dk_at dksX0_boxOf_0 1 rfl rfl)
theorem dX0_boxOf_2 : decode cX0_boxOf 2 = .ok (.aload_n 0, 1) := dk_42 (dk_at dksX0_boxOf_0 2 rfl rfl)
theorem dX0_boxOf_3 : decode cX0_boxOf 3 = .ok (.iload_n 1, 1) := dk_27 (dk_at dksX0_boxOf_0 3 rfl rfl)
theorem dX0_boxOf_4 : decode cX0_boxOf 4 = .ok (.iload_n 2, 1) := dk_28 (dk_at dksX0_boxOf_0 4 rfl rfl)
theorem dX0_boxOf_5 : decode cX0_boxOf 5 = .ok (.invokevirtual 67, 3) := dk_182 0 67 (dk_at dksX0_boxOf_0 5 rfl rfl)
theorem dX0_boxOf_8 : decode cX0_boxOf 8 = .ok (.i2l, 1) := dk_133 (dk_at dksX0_boxOf_0 8 rfl rfl)
theorem dX0_boxOf_9 : decode cX0_boxOf 9 = .ok (.lastore, 1) := dk_80 (dk_at dksX0_boxOf_0 9 rfl rfl)
theorem dX0_boxOf_10 : decode cX0_boxOf 10 = .ok (.goto 11, 3) := dk_167 0 11 (dk_at dksX0_boxOf_0 10 rfl rfl)
theorem dX0_boxOf_13 : decode cX0_boxOf 13 = .ok (.astore 4, 2) := dk_58 4 (dk_at dksX0_boxOf_0 13 rfl rfl)
theorem dX0_boxOf_15 : decode cX0_boxOf 15 = .ok (.iconst 1, 1) := dk_4 (dk_at dksX0_boxOf_0 15 rfl rfl)
theorem dX0_boxOf_16 : decode cX0_boxOf 16 = .ok (.ireturn, 1) := dk_172 (dk_at dksX0_boxOf_0 16 rfl rfl)
theorem dX0_boxOf_17 : decode cX0_boxOf 17 = .ok (.astore 4, 2) := dk_58 4 (dk_at dksX0_boxOf_0 17 rfl rfl)
theorem dX0_boxOf_19 : decode cX0_boxOf 19 = .ok (.iconst 2, 1) := dk_5 (dk_at dksX0_boxOf_0 19 rfl rfl)
theorem dX0_boxOf_20 : decode cX0_boxOf 20 = .ok (.ireturn, 1) := dk_172 (dk_at dksX0_boxOf_0 20 rfl rfl)
theorem dX0_boxOf_21 : decode cX0_boxOf 21 = .ok (.iconst 0, 1) := dk_3 (dk_at dksX0_boxOf_0 21 rfl rfl)
theorem dX0_boxOf_22 : decode cX0_boxOf 22 = .ok (.ireturn, 1) := dk_172 (dk_at dksX0_boxOf_0 22 rfl rfl)
abbrev cX0_span : ByteArray := method_19_code
def yX0_span : MethodName := ⟨RX0, "span", "(LBoxSpans;IIZ[J)I"⟩
def dkwX0_span_1 : List UInt8 := [172]
abbrev dktX0_span_1 : List UInt8 := dkwX0_span_1 ++ []
def dkwX0_span_0 : List UInt8 := [25, 4, 3, 42, 27, 28, 29, 182, 0, 70, 133, 80, 167, 0, 11, 58, 5, 4, 172, 58, 5, 5, 172, 3]
abbrev dktX0_span_0 : List UInt8 := dkwX0_span_0 ++ dktX0_span_1
theorem dksX0_span_0 : cX0_span.data.toList.drop 0 = dktX0_span_0 := by decide +kernel
theorem dksX0_span_1 : cX0_span.data.toList.drop 24 = dktX0_span_1 := dk_seg dksX0_span_0 24 rfl rfl
theorem dX0_span_0 : decode cX0_span 0 = .ok (.aload 4, 2) := dk_25 4 (dk_at dksX0_span_0 0 rfl rfl)
theorem dX0_span_2 : decode cX0_span 2 = .ok (.iconst 0, 1) := dk_3 (dk_at dksX0_span_0 2 rfl rfl)
theorem dX0_span_3 : decode cX0_span 3 = .ok (.aload_n 0, 1) := dk_42 (dk_at dksX0_span_0 3 rfl rfl)
theorem dX0_span_4 : decode cX0_span 4 = .ok (.iload_n 1, 1) := dk_27 (dk_at dksX0_span_0 4 rfl rfl)
theorem dX0_span_5 : decode cX0_span 5 = .ok (.iload_n 2, 1) := dk_28 (dk_at dksX0_span_0 5 rfl rfl)
theorem dX0_span_6 : decode cX0_span 6 = .ok (.iload_n 3, 1) := dk_29 (dk_at dksX0_span_0 6 rfl rfl)
theorem dX0_span_7 : decode cX0_span 7 = .ok (.invokevirtual 70, 3) := dk_182 0 70 (dk_at dksX0_span_0 7 rfl rfl)
theorem dX0_span_10 : decode cX0_span 10 = .ok (.i2l, 1) := dk_133 (dk_at dksX0_span_0 10 rfl rfl)
theorem dX0_span_11 : decode cX0_span 11 = .ok (.lastore, 1) := dk_80 (dk_at dksX0_span_0 11 rfl rfl)
theorem dX0_span_12 : decode cX0_span 12 = .ok (.goto 11, 3) := dk_167 0 11 (dk_at dksX0_span_0 12 rfl rfl)
theorem dX0_span_15 : decode cX0_span 15 = .ok (.astore 5, 2) := dk_58 5 (dk_at dksX0_span_0 15 rfl rfl)
theorem dX0_span_17 : decode cX0_span 17 = .ok (.iconst 1, 1) := dk_4 (dk_at dksX0_span_0 17 rfl rfl)
theorem dX0_span_18 : decode cX0_span 18 = .ok (.ireturn, 1) := dk_172 (dk_at dksX0_span_0 18 rfl rfl)
theorem dX0_span_19 : decode cX0_span 19 = .ok (.astore 5, 2) := dk_58 5 (dk_at dksX0_span_0 19 rfl rfl)
theorem dX0_span_21 : decode cX0_span 21 = .ok (.iconst 2, 1) := dk_5 (dk_at dksX0_span_0 21 rfl rfl)
theorem dX0_span_22 : decode cX0_span 22 = .ok (.ireturn, 1) := dk_172 (dk_at dksX0_span_0 22 rfl rfl)
theorem dX0_span_23 : decode cX0_span 23 = .ok (.iconst 0, 1) := dk_3 (dk_at dksX0_span_0 23 rfl rfl)
theorem dX0_span_24 : decode cX0_span 24 = .ok (.ireturn, 1) := dk_172 (dk_at dksX0_span_1 0 rfl rfl)
abbrev cX0_gap : ByteArray := method_20_code
def yX0_gap : MethodName := ⟨RX0, "gap", "(LBoxSpans;IIZ[J)I"⟩
def dkwX0_gap_1 : List UInt8 := [172]
abbrev dktX0_gap_1 : List UInt8 := dkwX0_gap_1 ++ []
def dkwX0_gap_0 : List UInt8 := [25, 4, 3, 42, 27, 28, 29, 182, 0, 74, 133, 80, 167, 0, 11, 58, 5, 4, 172, 58, 5, 5, 172, 3]
abbrev dktX0_gap_0 : List UInt8 := dkwX0_gap_0 ++ dktX0_gap_1
theorem dksX0_gap_0 : cX0_gap.data.toList.drop 0 = dktX0_gap_0 := by decide +kernel
theorem dksX0_gap_1 : cX0_gap.data.toList.drop 24 = dktX0_gap_1 := dk_seg dksX0_gap_0 24 rfl rfl
theorem dX0_gap_0 : decode cX0_gap 0 = .ok (.aload 4, 2) := dk_25 4 (dk_at dksX0_gap_0 0 rfl rfl)
theorem dX0_gap_2 : decode cX0_gap 2 = .ok (.iconst 0, 1) := dk_3 (dk_at dksX0_gap_0 2 rfl rfl)
theorem dX0_gap_3 : decode cX0_gap 3 = .ok (.aload_n 0, 1) := dk_42 (dk_at dksX0_gap_0 3 rfl rfl)
theorem dX0_gap_4 : decode cX0_gap 4 = .ok (.iload_n 1, 1) := dk_27 (dk_at dksX0_gap_0 4 rfl rfl)
theorem dX0_gap_5 : decode cX0_gap 5 = .ok (.iload_n 2, 1) := dk_28 (dk_at dksX0_gap_0 5 rfl rfl)
theorem dX0_gap_6 : decode cX0_gap 6 = .ok (.iload_n 3, 1) := dk_29 (dk_at dksX0_gap_0 6 rfl rfl)
theorem dX0_gap_7 : decode cX0_gap 7 = .ok (.invokevirtual 74, 3) := dk_182 0 74 (dk_at dksX0_gap_0 7 rfl rfl)
theorem dX0_gap_10 : decode cX0_gap 10 = .ok (.i2l, 1) := dk_133 (dk_at dksX0_gap_0 10 rfl rfl)
theorem dX0_gap_11 : decode cX0_gap 11 = .ok (.lastore, 1) := dk_80 (dk_at dksX0_gap_0 11 rfl rfl)
theorem dX0_gap_12 : decode cX0_gap 12 = .ok (.goto 11, 3) := dk_167 0 11 (dk_at dksX0_gap_0 12 rfl rfl)
theorem dX0_gap_15 : decode cX0_gap 15 = .ok (.astore 5, 2) := dk_58 5 (dk_at dksX0_gap_0 15 rfl rfl)
theorem dX0_gap_17 : decode cX0_gap 17 = .ok (.iconst 1, 1) := dk_4 (dk_at dksX0_gap_0 17 rfl rfl)
theorem dX0_gap_18 : decode cX0_gap 18 = .ok (.ireturn, 1) := dk_172 (dk_at dksX0_gap_0 18 rfl rfl)
theorem dX0_gap_19 : decode cX0_gap 19 = .ok (.astore 5, 2) := dk_58 5 (dk_at dksX0_gap_0 19 rfl rfl)
theorem dX0_gap_21 : decode cX0_gap 21 = .ok (.iconst 2, 1) := dk_5 (dk_at dksX0_gap_0 21 rfl rfl)
theorem dX0_gap_22 : decode cX0_gap 22 = .ok (.ireturn, 1) := dk_172 (dk_at dksX0_gap_0 22 rfl rfl)
theorem dX0_gap_23 : decode cX0_gap 23 = .ok (.iconst 0, 1) := dk_3 (dk_at dksX0_gap_0 23 rfl rfl)
theorem dX0_gap_24 : decode cX0_gap 24 = .ok (.ireturn, 1) := dk_172 (dk_at dksX0_gap_1 0 rfl rfl)
abbrev cX0_fits : ByteArray := method_21_code
def yX0_fits : MethodName := ⟨RX0, "fits", "(LBoxSpans;II[J)I"⟩
def dkwX0_fits_1 : List UInt8 := [172, 3, 172]
abbrev dktX0_fits_1 : List UInt8 := dkwX0_fits_1 ++ []
def dkwX0_fits_0 : List UInt8 := [45, 3, 42, 27, 28, 182, 0, 77, 133, 80, 167, 0, 15, 58, 4, 4, 172, 58, 4, 5, 172, 58, 4, 6]
abbrev dktX0_fits_0 : List UInt8 := dkwX0_fits_0 ++ dktX0_fits_1
theorem dksX0_fits_0 : cX0_fits.data.toList.drop 0 = dktX0_fits_0 := by decide +kernel
theorem dksX0_fits_1 : cX0_fits.data.toList.drop 24 = dktX0_fits_1 := dk_seg dksX0_fits_0 24 rfl rfl
theorem dX0_fits_0 : decode cX0_fits 0 = .ok (.aload_n 3, 1) := dk_45 (dk_at dksX0_fits_0 0 rfl rfl)
theorem dX0_fits_1 : decode cX0_fits 1 = .ok (.iconst 0, 1) := dk_3 (dk_at dksX0_fits_0 1 rfl rfl)
theorem dX0_fits_2 : decode cX0_fits 2 = .ok (.aload_n 0, 1) := dk_42 (dk_at dksX0_fits_0 2 rfl rfl)
theorem dX0_fits_3 : decode cX0_fits 3 = .ok (.iload_n 1, 1) := dk_27 (dk_at dksX0_fits_0 3 rfl rfl)
theorem dX0_fits_4 : decode cX0_fits 4 = .ok (.iload_n 2, 1) := dk_28 (dk_at dksX0_fits_0 4 rfl rfl)
theorem dX0_fits_5 : decode cX0_fits 5 = .ok (.invokevirtual 77, 3) := dk_182 0 77 (dk_at dksX0_fits_0 5 rfl rfl)
theorem dX0_fits_8 : decode cX0_fits 8 = .ok (.i2l, 1) := dk_133 (dk_at dksX0_fits_0 8 rfl rfl)
theorem dX0_fits_9 : decode cX0_fits 9 = .ok (.lastore, 1) := dk_80 (dk_at dksX0_fits_0 9 rfl rfl)
theorem dX0_fits_10 : decode cX0_fits 10 = .ok (.goto 15, 3) := dk_167 0 15 (dk_at dksX0_fits_0 10 rfl rfl)
theorem dX0_fits_13 : decode cX0_fits 13 = .ok (.astore 4, 2) := dk_58 4 (dk_at dksX0_fits_0 13 rfl rfl)
theorem dX0_fits_15 : decode cX0_fits 15 = .ok (.iconst 1, 1) := dk_4 (dk_at dksX0_fits_0 15 rfl rfl)
theorem dX0_fits_16 : decode cX0_fits 16 = .ok (.ireturn, 1) := dk_172 (dk_at dksX0_fits_0 16 rfl rfl)
theorem dX0_fits_17 : decode cX0_fits 17 = .ok (.astore 4, 2) := dk_58 4 (dk_at dksX0_fits_0 17 rfl rfl)
theorem dX0_fits_19 : decode cX0_fits 19 = .ok (.iconst 2, 1) := dk_5 (dk_at dksX0_fits_0 19 rfl rfl)
theorem dX0_fits_20 : decode cX0_fits 20 = .ok (.ireturn, 1) := dk_172 (dk_at dksX0_fits_0 20 rfl rfl)
theorem dX0_fits_21 : decode cX0_fits 21 = .ok (.astore 4, 2) := dk_58 4 (dk_at dksX0_fits_0 21 rfl rfl)
theorem dX0_fits_23 : decode cX0_fits 23 = .ok (.iconst 3, 1) := dk_6 (dk_at dksX0_fits_0 23 rfl rfl)
theorem dX0_fits_24 : decode cX0_fits 24 = .ok (.ireturn, 1) := dk_172 (dk_at dksX0_fits_1 0 rfl rfl)
theorem dX0_fits_25 : decode cX0_fits 25 = .ok (.iconst 0, 1) := dk_3 (dk_at dksX0_fits_1 1 rfl rfl)
theorem dX0_fits_26 : decode cX0_fits 26 = .ok (.ireturn, 1) := dk_172 (dk_at dksX0_fits_1 2 rfl rfl)
abbrev cX0_roomFor : ByteArray := method_22_code
def yX0_roomFor : MethodName := ⟨RX0, "roomFor", "(LBoxSpans;III[J)I"⟩
def dkwX0_roomFor_1 : List UInt8 := [172]
abbrev dktX0_roomFor_1 : List UInt8 := dkwX0_roomFor_1 ++ []
def dkwX0_roomFor_0 : List UInt8 := [25, 4, 3, 42, 27, 28, 29, 182, 0, 80, 133, 80, 167, 0, 11, 58, 5, 4, 172, 58, 5, 5, 172, 3]
abbrev dktX0_roomFor_0 : List UInt8 := dkwX0_roomFor_0 ++ dktX0_roomFor_1
theorem dksX0_roomFor_0 : cX0_roomFor.data.toList.drop 0 = dktX0_roomFor_0 := by decide +kernel
theorem dksX0_roomFor_1 : cX0_roomFor.data.toList.drop 24 = dktX0_roomFor_1 := dk_seg dksX0_roomFor_0 24 rfl rfl
theorem dX0_roomFor_0 : decode cX0_roomFor 0 = .ok (.aload 4, 2) := dk_25 4 (dk_at dksX0_roomFor_0 0 rfl rfl)
theorem dX0_roomFor_2 : decode cX0_roomFor 2 = .ok (.iconst 0, 1) := dk_3 (dk_at dksX0_roomFor_0 2 rfl rfl)
theorem dX0_roomFor_3 : decode cX0_roomFor 3 = .ok (.aload_n 0, 1) := dk_42 (dk_at dksX0_roomFor_0 3 rfl rfl)
theorem dX0_roomFor_4 : decode cX0_roomFor 4 = .ok (.iload_n 1, 1) := dk_27 (dk_at dksX0_roomFor_0 4 rfl rfl)
theorem dX0_roomFor_5 : decode cX0_roomFor 5 = .ok (.iload_n 2, 1) := dk_28 (dk_at dksX0_roomFor_0 5 rfl rfl)
theorem dX0_roomFor_6 : decode cX0_roomFor 6 = .ok (.iload_n 3, 1) := dk_29 (dk_at dksX0_roomFor_0 6 rfl rfl)
theorem dX0_roomFor_7 : decode cX0_roomFor 7 = .ok (.invokevirtual 80, 3) := dk_182 0 80 (dk_at dksX0_roomFor_0 7 rfl rfl)
theorem dX0_roomFor_10 : decode cX0_roomFor 10 = .ok (.i2l, 1) := dk_133 (dk_at dksX0_roomFor_0 10 rfl rfl)
theorem dX0_roomFor_11 : decode cX0_roomFor 11 = .ok (.lastore, 1) := dk_80 (dk_at dksX0_roomFor_0 11 rfl rfl)
theorem dX0_roomFor_12 : decode cX0_roomFor 12 = .ok (.goto 11, 3) := dk_167 0 11 (dk_at dksX0_roomFor_0 12 rfl rfl)
theorem dX0_roomFor_15 : decode cX0_roomFor 15 = .ok (.astore 5, 2) := dk_58 5 (dk_at dksX0_roomFor_0 15 rfl rfl)
theorem dX0_roomFor_17 : decode cX0_roomFor 17 = .ok (.iconst 1, 1) := dk_4 (dk_at dksX0_roomFor_0 17 rfl rfl)
theorem dX0_roomFor_18 : decode cX0_roomFor 18 = .ok (.ireturn, 1) := dk_172 (dk_at dksX0_roomFor_0 18 rfl rfl)
theorem dX0_roomFor_19 : decode cX0_roomFor 19 = .ok (.astore 5, 2) := dk_58 5 (dk_at dksX0_roomFor_0 19 rfl rfl)
theorem dX0_roomFor_21 : decode cX0_roomFor 21 = .ok (.iconst 2, 1) := dk_5 (dk_at dksX0_roomFor_0 21 rfl rfl)
theorem dX0_roomFor_22 : decode cX0_roomFor 22 = .ok (.ireturn, 1) := dk_172 (dk_at dksX0_roomFor_0 22 rfl rfl)
theorem dX0_roomFor_23 : decode cX0_roomFor 23 = .ok (.iconst 0, 1) := dk_3 (dk_at dksX0_roomFor_0 23 rfl rfl)
theorem dX0_roomFor_24 : decode cX0_roomFor 24 = .ok (.ireturn, 1) := dk_172 (dk_at dksX0_roomFor_1 0 rfl rfl)
abbrev cX0_hour : ByteArray := method_23_code
def yX0_hour : MethodName := ⟨RX0, "hour", "(LBoxSpans;II[J)I"⟩
def dkwX0_hour_0 : List UInt8 := [45, 3, 42, 27, 28, 182, 0, 83, 133, 80, 167, 0, 11, 58, 4, 4, 172, 58, 4, 5, 172, 3, 172]
abbrev dktX0_hour_0 : List UInt8 := dkwX0_hour_0 ++ []
theorem dksX0_hour_0 : cX0_hour.data.toList.drop 0 = dktX0_hour_0 := by decide +kernel
theorem dX0_hour_0 : decode cX0_hour 0 = .ok (.aload_n 3, 1) := dk_45 (dk_at dksX0_hour_0 0 rfl rfl)
theorem dX0_hour_1 : decode cX0_hour 1 = .ok (.iconst 0, 1) := dk_3 (dk_at dksX0_hour_0 1 rfl rfl)
theorem dX0_hour_2 : decode cX0_hour 2 = .ok (.aload_n 0, 1) := dk_42 (dk_at dksX0_hour_0 2 rfl rfl)
theorem dX0_hour_3 : decode cX0_hour 3 = .ok (.iload_n 1, 1) := dk_27 (dk_at dksX0_hour_0 3 rfl rfl)
theorem dX0_hour_4 : decode cX0_hour 4 = .ok (.iload_n 2, 1) := dk_28 (dk_at dksX0_hour_0 4 rfl rfl)
theorem dX0_hour_5 : decode cX0_hour 5 = .ok (.invokevirtual 83, 3) := dk_182 0 83 (dk_at dksX0_hour_0 5 rfl rfl)
theorem dX0_hour_8 : decode cX0_hour 8 = .ok (.i2l, 1) := dk_133 (dk_at dksX0_hour_0 8 rfl rfl)
theorem dX0_hour_9 : decode cX0_hour 9 = .ok (.lastore, 1) := dk_80 (dk_at dksX0_hour_0 9 rfl rfl)
theorem dX0_hour_10 : decode cX0_hour 10 = .ok (.goto 11, 3) := dk_167 0 11 (dk_at dksX0_hour_0 10 rfl rfl)
theorem dX0_hour_13 : decode cX0_hour 13 = .ok (.astore 4, 2) := dk_58 4 (dk_at dksX0_hour_0 13 rfl rfl)
theorem dX0_hour_15 : decode cX0_hour 15 = .ok (.iconst 1, 1) := dk_4 (dk_at dksX0_hour_0 15 rfl rfl)
theorem dX0_hour_16 : decode cX0_hour 16 = .ok (.ireturn, 1) := dk_172 (dk_at dksX0_hour_0 16 rfl rfl)
theorem dX0_hour_17 : decode cX0_hour 17 = .ok (.astore 4, 2) := dk_58 4 (dk_at dksX0_hour_0 17 rfl rfl)
theorem dX0_hour_19 : decode cX0_hour 19 = .ok (.iconst 2, 1) := dk_5 (dk_at dksX0_hour_0 19 rfl rfl)
theorem dX0_hour_20 : decode cX0_hour 20 = .ok (.ireturn, 1) := dk_172 (dk_at dksX0_hour_0 20 rfl rfl)
theorem dX0_hour_21 : decode cX0_hour 21 = .ok (.iconst 0, 1) := dk_3 (dk_at dksX0_hour_0 21 rfl rfl)
theorem dX0_hour_22 : decode cX0_hour 22 = .ok (.ireturn, 1) := dk_172 (dk_at dksX0_hour_0 22 rfl rfl)
abbrev cX0_ranked : ByteArray := method_24_code
def yX0_ranked : MethodName := ⟨RX0, "ranked", "(LBoxSpans;I[J)I"⟩
def dkwX0_ranked_0 : List UInt8 := [44, 3, 42, 27, 182, 0, 86, 133, 80, 167, 0, 6, 78, 4, 172, 3, 172]
abbrev dktX0_ranked_0 : List UInt8 := dkwX0_ranked_0 ++ []
theorem dksX0_ranked_0 : cX0_ranked.data.toList.drop 0 = dktX0_ranked_0 := by decide +kernel
theorem dX0_ranked_0 : decode cX0_ranked 0 = .ok (.aload_n 2, 1) := dk_44 (dk_at dksX0_ranked_0 0 rfl rfl)
theorem dX0_ranked_1 : decode cX0_ranked 1 = .ok (.iconst 0, 1) := dk_3 (dk_at dksX0_ranked_0 1 rfl rfl)
theorem dX0_ranked_2 : decode cX0_ranked 2 = .ok (.aload_n 0, 1) := dk_42 (dk_at dksX0_ranked_0 2 rfl rfl)
theorem dX0_ranked_3 : decode cX0_ranked 3 = .ok (.iload_n 1, 1) := dk_27 (dk_at dksX0_ranked_0 3 rfl rfl)
theorem dX0_ranked_4 : decode cX0_ranked 4 = .ok (.invokevirtual 86, 3) := dk_182 0 86 (dk_at dksX0_ranked_0 4 rfl rfl)
theorem dX0_ranked_7 : decode cX0_ranked 7 = .ok (.i2l, 1) := dk_133 (dk_at dksX0_ranked_0 7 rfl rfl)
theorem dX0_ranked_8 : decode cX0_ranked 8 = .ok (.lastore, 1) := dk_80 (dk_at dksX0_ranked_0 8 rfl rfl)
theorem dX0_ranked_9 : decode cX0_ranked 9 = .ok (.goto 6, 3) := dk_167 0 6 (dk_at dksX0_ranked_0 9 rfl rfl)
theorem dX0_ranked_12 : decode cX0_ranked 12 = .ok (.astore_n 3, 1) := dk_78 (dk_at dksX0_ranked_0 12 rfl rfl)
theorem dX0_ranked_13 : decode cX0_ranked 13 = .ok (.iconst 1, 1) := dk_4 (dk_at dksX0_ranked_0 13 rfl rfl)
theorem dX0_ranked_14 : decode cX0_ranked 14 = .ok (.ireturn, 1) := dk_172 (dk_at dksX0_ranked_0 14 rfl rfl)
theorem dX0_ranked_15 : decode cX0_ranked 15 = .ok (.iconst 0, 1) := dk_3 (dk_at dksX0_ranked_0 15 rfl rfl)
theorem dX0_ranked_16 : decode cX0_ranked 16 = .ok (.ireturn, 1) := dk_172 (dk_at dksX0_ranked_0 16 rfl rfl)
abbrev cX0_type : ByteArray := method_25_code
def yX0_type : MethodName := ⟨RX0, "type", "(LBoxSpans;C[J)I"⟩
def dkwX0_type_0 : List UInt8 := [44, 3, 42, 27, 182, 0, 89, 133, 80, 167, 0, 6, 78, 4, 172, 3, 172]
abbrev dktX0_type_0 : List UInt8 := dkwX0_type_0 ++ []
theorem dksX0_type_0 : cX0_type.data.toList.drop 0 = dktX0_type_0 := by decide +kernel
theorem dX0_type_0 : decode cX0_type 0 = .ok (.aload_n 2, 1) := dk_44 (dk_at dksX0_type_0 0 rfl rfl)
theorem dX0_type_1 : decode cX0_type 1 = .ok (.iconst 0, 1) := dk_3 (dk_at dksX0_type_0 1 rfl rfl)
theorem dX0_type_2 : decode cX0_type 2 = .ok (.aload_n 0, 1) := dk_42 (dk_at dksX0_type_0 2 rfl rfl)
theorem dX0_type_3 : decode cX0_type 3 = .ok (.iload_n 1, 1) := dk_27 (dk_at dksX0_type_0 3 rfl rfl)
theorem dX0_type_4 : decode cX0_type 4 = .ok (.invokevirtual 89, 3) := dk_182 0 89 (dk_at dksX0_type_0 4 rfl rfl)
theorem dX0_type_7 : decode cX0_type 7 = .ok (.i2l, 1) := dk_133 (dk_at dksX0_type_0 7 rfl rfl)
theorem dX0_type_8 : decode cX0_type 8 = .ok (.lastore, 1) := dk_80 (dk_at dksX0_type_0 8 rfl rfl)
theorem dX0_type_9 : decode cX0_type 9 = .ok (.goto 6, 3) := dk_167 0 6 (dk_at dksX0_type_0 9 rfl rfl)
theorem dX0_type_12 : decode cX0_type 12 = .ok (.astore_n 3, 1) := dk_78 (dk_at dksX0_type_0 12 rfl rfl)
theorem dX0_type_13 : decode cX0_type 13 = .ok (.iconst 1, 1) := dk_4 (dk_at dksX0_type_0 13 rfl rfl)
theorem dX0_type_14 : decode cX0_type 14 = .ok (.ireturn, 1) := dk_172 (dk_at dksX0_type_0 14 rfl rfl)
theorem dX0_type_15 : decode cX0_type 15 = .ok (.iconst 0, 1) := dk_3 (dk_at dksX0_type_0 15 rfl rfl)
theorem dX0_type_16 : decode cX0_type 16 = .ok (.ireturn, 1) := dk_172 (dk_at dksX0_type_0 16 rfl rfl)
abbrev cX0_read : ByteArray := method_26_code
def yX0_read : MethodName := ⟨RX0, "read", "(LBoxSpans;[J)I"⟩
def dkwX0_read_0 : List UInt8 := [43, 3, 42, 182, 0, 95, 133, 80, 167, 0, 9, 77, 4, 172, 77, 5, 172, 3, 172]
abbrev dktX0_read_0 : List UInt8 := dkwX0_read_0 ++ []
theorem dksX0_read_0 : cX0_read.data.toList.drop 0 = dktX0_read_0 := by decide +kernel
theorem dX0_read_0 : decode cX0_read 0 = .ok (.aload_n 1, 1) := dk_43 (dk_at dksX0_read_0 0 rfl rfl)
theorem dX0_read_1 : decode cX0_read 1 = .ok (.iconst 0, 1) := dk_3 (dk_at dksX0_read_0 1 rfl rfl)
theorem dX0_read_2 : decode cX0_read 2 = .ok (.aload_n 0, 1) := dk_42 (dk_at dksX0_read_0 2 rfl rfl)
theorem dX0_read_3 : decode cX0_read 3 = .ok (.invokevirtual 95, 3) := dk_182 0 95 (dk_at dksX0_read_0 3 rfl rfl)
theorem dX0_read_6 : decode cX0_read 6 = .ok (.i2l, 1) := dk_133 (dk_at dksX0_read_0 6 rfl rfl)
theorem dX0_read_7 : decode cX0_read 7 = .ok (.lastore, 1) := dk_80 (dk_at dksX0_read_0 7 rfl rfl)
theorem dX0_read_8 : decode cX0_read 8 = .ok (.goto 9, 3) := dk_167 0 9 (dk_at dksX0_read_0 8 rfl rfl)
theorem dX0_read_11 : decode cX0_read 11 = .ok (.astore_n 2, 1) := dk_77 (dk_at dksX0_read_0 11 rfl rfl)
theorem dX0_read_12 : decode cX0_read 12 = .ok (.iconst 1, 1) := dk_4 (dk_at dksX0_read_0 12 rfl rfl)
theorem dX0_read_13 : decode cX0_read 13 = .ok (.ireturn, 1) := dk_172 (dk_at dksX0_read_0 13 rfl rfl)
theorem dX0_read_14 : decode cX0_read 14 = .ok (.astore_n 2, 1) := dk_77 (dk_at dksX0_read_0 14 rfl rfl)
theorem dX0_read_15 : decode cX0_read 15 = .ok (.iconst 2, 1) := dk_5 (dk_at dksX0_read_0 15 rfl rfl)
theorem dX0_read_16 : decode cX0_read 16 = .ok (.ireturn, 1) := dk_172 (dk_at dksX0_read_0 16 rfl rfl)
theorem dX0_read_17 : decode cX0_read 17 = .ok (.iconst 0, 1) := dk_3 (dk_at dksX0_read_0 17 rfl rfl)
theorem dX0_read_18 : decode cX0_read 18 = .ok (.ireturn, 1) := dk_172 (dk_at dksX0_read_0 18 rfl rfl)
abbrev cX0_errorPosition : ByteArray := method_27_code
def yX0_errorPosition : MethodName := ⟨RX0, "errorPosition", "(LBoxSpans;[J)I"⟩
def dkwX0_errorPosition_0 : List UInt8 := [43, 3, 42, 182, 0, 98, 133, 80, 167, 0, 6, 77, 4, 172, 3, 172]
abbrev dktX0_errorPosition_0 : List UInt8 := dkwX0_errorPosition_0 ++ []
theorem dksX0_errorPosition_0 : cX0_errorPosition.data.toList.drop 0 = dktX0_errorPosition_0 := by decide +kernel
theorem dX0_errorPosition_0 : decode cX0_errorPosition 0 = .ok (.aload_n 1, 1) := dk_43 (dk_at dksX0_errorPosition_0 0 rfl rfl)
theorem dX0_errorPosition_1 : decode cX0_errorPosition 1 = .ok (.iconst 0, 1) := dk_3 (dk_at dksX0_errorPosition_0 1 rfl rfl)
theorem dX0_errorPosition_2 : decode cX0_errorPosition 2 = .ok (.aload_n 0, 1) := dk_42 (dk_at dksX0_errorPosition_0 2 rfl rfl)
theorem dX0_errorPosition_3 : decode cX0_errorPosition 3 = .ok (.invokevirtual 98, 3) := dk_182 0 98 (dk_at dksX0_errorPosition_0 3 rfl rfl)
theorem dX0_errorPosition_6 : decode cX0_errorPosition 6 = .ok (.i2l, 1) := dk_133 (dk_at dksX0_errorPosition_0 6 rfl rfl)
theorem dX0_errorPosition_7 : decode cX0_errorPosition 7 = .ok (.lastore, 1) := dk_80 (dk_at dksX0_errorPosition_0 7 rfl rfl)
theorem dX0_errorPosition_8 : decode cX0_errorPosition 8 = .ok (.goto 6, 3) := dk_167 0 6 (dk_at dksX0_errorPosition_0 8 rfl rfl)
theorem dX0_errorPosition_11 : decode cX0_errorPosition 11 = .ok (.astore_n 2, 1) := dk_77 (dk_at dksX0_errorPosition_0 11 rfl rfl)
theorem dX0_errorPosition_12 : decode cX0_errorPosition 12 = .ok (.iconst 1, 1) := dk_4 (dk_at dksX0_errorPosition_0 12 rfl rfl)
theorem dX0_errorPosition_13 : decode cX0_errorPosition 13 = .ok (.ireturn, 1) := dk_172 (dk_at dksX0_errorPosition_0 13 rfl rfl)
theorem dX0_errorPosition_14 : decode cX0_errorPosition 14 = .ok (.iconst 0, 1) := dk_3 (dk_at dksX0_errorPosition_0 14 rfl rfl)
theorem dX0_errorPosition_15 : decode cX0_errorPosition 15 = .ok (.ireturn, 1) := dk_172 (dk_at dksX0_errorPosition_0 15 rfl rfl)
abbrev cX0_refusal : ByteArray := method_28_code
def yX0_refusal : MethodName := ⟨RX0, "refusal", "(LBoxSpans;ZZ[J)I"⟩
def dkwX0_refusal_0 : List UInt8 := [45, 3, 42, 27, 28, 182, 0, 101, 133, 80, 167, 0, 7, 58, 4, 4, 172, 3, 172]
abbrev dktX0_refusal_0 : List UInt8 := dkwX0_refusal_0 ++ []
theorem dksX0_refusal_0 : cX0_refusal.data.toList.drop 0 = dktX0_refusal_0 := by decide +kernel
theorem dX0_refusal_0 : decode cX0_refusal 0 = .ok (.aload_n 3, 1) := dk_45 (dk_at dksX0_refusal_0 0 rfl rfl)
theorem dX0_refusal_1 : decode cX0_refusal 1 = .ok (.iconst 0, 1) := dk_3 (dk_at dksX0_refusal_0 1 rfl rfl)
theorem dX0_refusal_2 : decode cX0_refusal 2 = .ok (.aload_n 0, 1) := dk_42 (dk_at dksX0_refusal_0 2 rfl rfl)
theorem dX0_refusal_3 : decode cX0_refusal 3 = .ok (.iload_n 1, 1) := dk_27 (dk_at dksX0_refusal_0 3 rfl rfl)
theorem dX0_refusal_4 : decode cX0_refusal 4 = .ok (.iload_n 2, 1) := dk_28 (dk_at dksX0_refusal_0 4 rfl rfl)
theorem dX0_refusal_5 : decode cX0_refusal 5 = .ok (.invokevirtual 101, 3) := dk_182 0 101 (dk_at dksX0_refusal_0 5 rfl rfl)
theorem dX0_refusal_8 : decode cX0_refusal 8 = .ok (.i2l, 1) := dk_133 (dk_at dksX0_refusal_0 8 rfl rfl)
theorem dX0_refusal_9 : decode cX0_refusal 9 = .ok (.lastore, 1) := dk_80 (dk_at dksX0_refusal_0 9 rfl rfl)
theorem dX0_refusal_10 : decode cX0_refusal 10 = .ok (.goto 7, 3) := dk_167 0 7 (dk_at dksX0_refusal_0 10 rfl rfl)
theorem dX0_refusal_13 : decode cX0_refusal 13 = .ok (.astore 4, 2) := dk_58 4 (dk_at dksX0_refusal_0 13 rfl rfl)
theorem dX0_refusal_15 : decode cX0_refusal 15 = .ok (.iconst 1, 1) := dk_4 (dk_at dksX0_refusal_0 15 rfl rfl)
theorem dX0_refusal_16 : decode cX0_refusal 16 = .ok (.ireturn, 1) := dk_172 (dk_at dksX0_refusal_0 16 rfl rfl)
theorem dX0_refusal_17 : decode cX0_refusal 17 = .ok (.iconst 0, 1) := dk_3 (dk_at dksX0_refusal_0 17 rfl rfl)
theorem dX0_refusal_18 : decode cX0_refusal 18 = .ok (.ireturn, 1) := dk_172 (dk_at dksX0_refusal_0 18 rfl rfl)
abbrev cX0_describe : ByteArray := method_29_code
def yX0_describe : MethodName := ⟨RX0, "describe", "(LBoxSpans;I[J)I"⟩
def dkwX0_describe_0 : List UInt8 := [44, 3, 42, 27, 182, 0, 105, 133, 80, 167, 0, 6, 78, 4, 172, 3, 172]
abbrev dktX0_describe_0 : List UInt8 := dkwX0_describe_0 ++ []
theorem dksX0_describe_0 : cX0_describe.data.toList.drop 0 = dktX0_describe_0 := by decide +kernel
theorem dX0_describe_0 : decode cX0_describe 0 = .ok (.aload_n 2, 1) := dk_44 (dk_at dksX0_describe_0 0 rfl rfl)
theorem dX0_describe_1 : decode cX0_describe 1 = .ok (.iconst 0, 1) := dk_3 (dk_at dksX0_describe_0 1 rfl rfl)
theorem dX0_describe_2 : decode cX0_describe 2 = .ok (.aload_n 0, 1) := dk_42 (dk_at dksX0_describe_0 2 rfl rfl)
theorem dX0_describe_3 : decode cX0_describe 3 = .ok (.iload_n 1, 1) := dk_27 (dk_at dksX0_describe_0 3 rfl rfl)
theorem dX0_describe_4 : decode cX0_describe 4 = .ok (.invokevirtual 105, 3) := dk_182 0 105 (dk_at dksX0_describe_0 4 rfl rfl)
theorem dX0_describe_7 : decode cX0_describe 7 = .ok (.i2l, 1) := dk_133 (dk_at dksX0_describe_0 7 rfl rfl)
theorem dX0_describe_8 : decode cX0_describe 8 = .ok (.lastore, 1) := dk_80 (dk_at dksX0_describe_0 8 rfl rfl)
theorem dX0_describe_9 : decode cX0_describe 9 = .ok (.goto 6, 3) := dk_167 0 6 (dk_at dksX0_describe_0 9 rfl rfl)
theorem dX0_describe_12 : decode cX0_describe 12 = .ok (.astore_n 3, 1) := dk_78 (dk_at dksX0_describe_0 12 rfl rfl)
theorem dX0_describe_13 : decode cX0_describe 13 = .ok (.iconst 1, 1) := dk_4 (dk_at dksX0_describe_0 13 rfl rfl)
theorem dX0_describe_14 : decode cX0_describe 14 = .ok (.ireturn, 1) := dk_172 (dk_at dksX0_describe_0 14 rfl rfl)
theorem dX0_describe_15 : decode cX0_describe 15 = .ok (.iconst 0, 1) := dk_3 (dk_at dksX0_describe_0 15 rfl rfl)
theorem dX0_describe_16 : decode cX0_describe 16 = .ok (.ireturn, 1) := dk_172 (dk_at dksX0_describe_0 16 rfl rfl)
abbrev cX0_show : ByteArray := method_30_code
def yX0_show : MethodName := ⟨RX0, "show", "(LBoxSpans;II[J)I"⟩
def dkwX0_show_0 : List UInt8 := [45, 3, 42, 27, 28, 182, 0, 108, 133, 80, 167, 0, 11, 58, 4, 4, 172, 58, 4, 5, 172, 3, 172]
abbrev dktX0_show_0 : List UInt8 := dkwX0_show_0 ++ []
theorem dksX0_show_0 : cX0_show.data.toList.drop 0 = dktX0_show_0 := by decide +kernel
theorem dX0_show_0 : decode cX0_show 0 = .ok (.aload_n 3, 1) := dk_45 (dk_at dksX0_show_0 0 rfl rfl)
theorem dX0_show_1 : decode cX0_show 1 = .ok (.iconst 0, 1) := dk_3 (dk_at dksX0_show_0 1 rfl rfl)
theorem dX0_show_2 : decode cX0_show 2 = .ok (.aload_n 0, 1) := dk_42 (dk_at dksX0_show_0 2 rfl rfl)
theorem dX0_show_3 : decode cX0_show 3 = .ok (.iload_n 1, 1) := dk_27 (dk_at dksX0_show_0 3 rfl rfl)
theorem dX0_show_4 : decode cX0_show 4 = .ok (.iload_n 2, 1) := dk_28 (dk_at dksX0_show_0 4 rfl rfl)
theorem dX0_show_5 : decode cX0_show 5 = .ok (.invokevirtual 108, 3) := dk_182 0 108 (dk_at dksX0_show_0 5 rfl rfl)
theorem dX0_show_8 : decode cX0_show 8 = .ok (.i2l, 1) := dk_133 (dk_at dksX0_show_0 8 rfl rfl)
theorem dX0_show_9 : decode cX0_show 9 = .ok (.lastore, 1) := dk_80 (dk_at dksX0_show_0 9 rfl rfl)
theorem dX0_show_10 : decode cX0_show 10 = .ok (.goto 11, 3) := dk_167 0 11 (dk_at dksX0_show_0 10 rfl rfl)
theorem dX0_show_13 : decode cX0_show 13 = .ok (.astore 4, 2) := dk_58 4 (dk_at dksX0_show_0 13 rfl rfl)
theorem dX0_show_15 : decode cX0_show 15 = .ok (.iconst 1, 1) := dk_4 (dk_at dksX0_show_0 15 rfl rfl)
theorem dX0_show_16 : decode cX0_show 16 = .ok (.ireturn, 1) := dk_172 (dk_at dksX0_show_0 16 rfl rfl)
theorem dX0_show_17 : decode cX0_show 17 = .ok (.astore 4, 2) := dk_58 4 (dk_at dksX0_show_0 17 rfl rfl)
theorem dX0_show_19 : decode cX0_show 19 = .ok (.iconst 2, 1) := dk_5 (dk_at dksX0_show_0 19 rfl rfl)
theorem dX0_show_20 : decode cX0_show 20 = .ok (.ireturn, 1) := dk_172 (dk_at dksX0_show_0 20 rfl rfl)
theorem dX0_show_21 : decode cX0_show 21 = .ok (.iconst 0, 1) := dk_3 (dk_at dksX0_show_0 21 rfl rfl)
theorem dX0_show_22 : decode cX0_show 22 = .ok (.ireturn, 1) := dk_172 (dk_at dksX0_show_0 22 rfl rfl)
abbrev cX0_written : ByteArray := method_31_code
def yX0_written : MethodName := ⟨RX0, "written", "(LBoxSpans;I[J)I"⟩
def dkwX0_written_0 : List UInt8 := [44, 3, 42, 27, 182, 0, 111, 133, 80, 167, 0, 6, 78, 4, 172, 3, 172]
abbrev dktX0_written_0 : List UInt8 := dkwX0_written_0 ++ []
theorem dksX0_written_0 : cX0_written.data.toList.drop 0 = dktX0_written_0 := by decide +kernel
theorem dX0_written_0 : decode cX0_written 0 = .ok (.aload_n 2, 1) := dk_44 (dk_at dksX0_written_0 0 rfl rfl)
theorem dX0_written_1 : decode cX0_written 1 = .ok (.iconst 0, 1) := dk_3 (dk_at dksX0_written_0 1 rfl rfl)
theorem dX0_written_2 : decode cX0_written 2 = .ok (.aload_n 0, 1) := dk_42 (dk_at dksX0_written_0 2 rfl rfl)
theorem dX0_written_3 : decode cX0_written 3 = .ok (.iload_n 1, 1) := dk_27 (dk_at dksX0_written_0 3 rfl rfl)
theorem dX0_written_4 : decode cX0_written 4 = .ok (.invokevirtual 111, 3) := dk_182 0 111 (dk_at dksX0_written_0 4 rfl rfl)
theorem dX0_written_7 : decode cX0_written 7 = .ok (.i2l, 1) := dk_133 (dk_at dksX0_written_0 7 rfl rfl)
theorem dX0_written_8 : decode cX0_written 8 = .ok (.lastore, 1) := dk_80 (dk_at dksX0_written_0 8 rfl rfl)
theorem dX0_written_9 : decode cX0_written 9 = .ok (.goto 6, 3) := dk_167 0 6 (dk_at dksX0_written_0 9 rfl rfl)
theorem dX0_written_12 : decode cX0_written 12 = .ok (.astore_n 3, 1) := dk_78 (dk_at dksX0_written_0 12 rfl rfl)
theorem dX0_written_13 : decode cX0_written 13 = .ok (.iconst 1, 1) := dk_4 (dk_at dksX0_written_0 13 rfl rfl)
theorem dX0_written_14 : decode cX0_written 14 = .ok (.ireturn, 1) := dk_172 (dk_at dksX0_written_0 14 rfl rfl)
theorem dX0_written_15 : decode cX0_written 15 = .ok (.iconst 0, 1) := dk_3 (dk_at dksX0_written_0 15 rfl rfl)
theorem dX0_written_16 : decode cX0_written 16 = .ok (.ireturn, 1) := dk_172 (dk_at dksX0_written_0 16 rfl rfl)
abbrev cX0_account : ByteArray := method_32_code
def yX0_account : MethodName := ⟨RX0, "account", "(LBoxSpans;I[J)I"⟩
def dkwX0_account_0 : List UInt8 := [44, 3, 42, 27, 182, 0, 115, 133, 80, 167, 0, 6, 78, 4, 172, 3, 172]
abbrev dktX0_account_0 : List UInt8 := dkwX0_account_0 ++ []
theorem dksX0_account_0 : cX0_account.data.toList.drop 0 = dktX0_account_0 := by decide +kernel
theorem dX0_account_0 : decode cX0_account 0 = .ok (.aload_n 2, 1) := dk_44 (dk_at dksX0_account_0 0 rfl rfl)
theorem dX0_account_1 : decode cX0_account 1 = .ok (.iconst 0, 1) := dk_3 (dk_at dksX0_account_0 1 rfl rfl)
theorem dX0_account_2 : decode cX0_account 2 = .ok (.aload_n 0, 1) := dk_42 (dk_at dksX0_account_0 2 rfl rfl)
theorem dX0_account_3 : decode cX0_account 3 = .ok (.iload_n 1, 1) := dk_27 (dk_at dksX0_account_0 3 rfl rfl)
theorem dX0_account_4 : decode cX0_account 4 = .ok (.invokevirtual 115, 3) := dk_182 0 115 (dk_at dksX0_account_0 4 rfl rfl)
theorem dX0_account_7 : decode cX0_account 7 = .ok (.i2l, 1) := dk_133 (dk_at dksX0_account_0 7 rfl rfl)
theorem dX0_account_8 : decode cX0_account 8 = .ok (.lastore, 1) := dk_80 (dk_at dksX0_account_0 8 rfl rfl)
theorem dX0_account_9 : decode cX0_account 9 = .ok (.goto 6, 3) := dk_167 0 6 (dk_at dksX0_account_0 9 rfl rfl)
theorem dX0_account_12 : decode cX0_account 12 = .ok (.astore_n 3, 1) := dk_78 (dk_at dksX0_account_0 12 rfl rfl)
theorem dX0_account_13 : decode cX0_account 13 = .ok (.iconst 1, 1) := dk_4 (dk_at dksX0_account_0 13 rfl rfl)
theorem dX0_account_14 : decode cX0_account 14 = .ok (.ireturn, 1) := dk_172 (dk_at dksX0_account_0 14 rfl rfl)
theorem dX0_account_15 : decode cX0_account 15 = .ok (.iconst 0, 1) := dk_3 (dk_at dksX0_account_0 15 rfl rfl)
theorem dX0_account_16 : decode cX0_account 16 = .ok (.ireturn, 1) := dk_172 (dk_at dksX0_account_0 16 rfl rfl)
abbrev cX0_meanLength : ByteArray := method_33_code
def yX0_meanLength : MethodName := ⟨RX0, "meanLength", "(LBoxSpans;[D)I"⟩
def dkwX0_meanLength_0 : List UInt8 := [43, 3, 42, 182, 0, 118, 82, 167, 0, 6, 77, 4, 172, 3, 172]
abbrev dktX0_meanLength_0 : List UInt8 := dkwX0_meanLength_0 ++ []
theorem dksX0_meanLength_0 : cX0_meanLength.data.toList.drop 0 = dktX0_meanLength_0 := by decide +kernel
theorem dX0_meanLength_0 : decode cX0_meanLength 0 = .ok (.aload_n 1, 1) := dk_43 (dk_at dksX0_meanLength_0 0 rfl rfl)
theorem dX0_meanLength_1 : decode cX0_meanLength 1 = .ok (.iconst 0, 1) := dk_3 (dk_at dksX0_meanLength_0 1 rfl rfl)
theorem dX0_meanLength_2 : decode cX0_meanLength 2 = .ok (.aload_n 0, 1) := dk_42 (dk_at dksX0_meanLength_0 2 rfl rfl)
theorem dX0_meanLength_3 : decode cX0_meanLength 3 = .ok (.invokevirtual 118, 3) := dk_182 0 118 (dk_at dksX0_meanLength_0 3 rfl rfl)
theorem dX0_meanLength_6 : decode cX0_meanLength 6 = .ok (.dastore, 1) := dk_82 (dk_at dksX0_meanLength_0 6 rfl rfl)
theorem dX0_meanLength_7 : decode cX0_meanLength 7 = .ok (.goto 6, 3) := dk_167 0 6 (dk_at dksX0_meanLength_0 7 rfl rfl)
theorem dX0_meanLength_10 : decode cX0_meanLength 10 = .ok (.astore_n 2, 1) := dk_77 (dk_at dksX0_meanLength_0 10 rfl rfl)
theorem dX0_meanLength_11 : decode cX0_meanLength 11 = .ok (.iconst 1, 1) := dk_4 (dk_at dksX0_meanLength_0 11 rfl rfl)
theorem dX0_meanLength_12 : decode cX0_meanLength 12 = .ok (.ireturn, 1) := dk_172 (dk_at dksX0_meanLength_0 12 rfl rfl)
theorem dX0_meanLength_13 : decode cX0_meanLength 13 = .ok (.iconst 0, 1) := dk_3 (dk_at dksX0_meanLength_0 13 rfl rfl)
theorem dX0_meanLength_14 : decode cX0_meanLength 14 = .ok (.ireturn, 1) := dk_172 (dk_at dksX0_meanLength_0 14 rfl rfl)
abbrev cX0_letShare : ByteArray := method_34_code
def yX0_letShare : MethodName := ⟨RX0, "letShare", "(LBoxSpans;I[D)I"⟩
def dkwX0_letShare_0 : List UInt8 := [44, 3, 42, 27, 182, 0, 124, 141, 82, 167, 0, 6, 78, 4, 172, 3, 172]
abbrev dktX0_letShare_0 : List UInt8 := dkwX0_letShare_0 ++ []
theorem dksX0_letShare_0 : cX0_letShare.data.toList.drop 0 = dktX0_letShare_0 := by decide +kernel
theorem dX0_letShare_0 : decode cX0_letShare 0 = .ok (.aload_n 2, 1) := dk_44 (dk_at dksX0_letShare_0 0 rfl rfl)
theorem dX0_letShare_1 : decode cX0_letShare 1 = .ok (.iconst 0, 1) := dk_3 (dk_at dksX0_letShare_0 1 rfl rfl)
theorem dX0_letShare_2 : decode cX0_letShare 2 = .ok (.aload_n 0, 1) := dk_42 (dk_at dksX0_letShare_0 2 rfl rfl)
theorem dX0_letShare_3 : decode cX0_letShare 3 = .ok (.iload_n 1, 1) := dk_27 (dk_at dksX0_letShare_0 3 rfl rfl)
theorem dX0_letShare_4 : decode cX0_letShare 4 = .ok (.invokevirtual 124, 3) := dk_182 0 124 (dk_at dksX0_letShare_0 4 rfl rfl)
theorem dX0_letShare_7 : decode cX0_letShare 7 = .ok (.f2d, 1) := dk_141 (dk_at dksX0_letShare_0 7 rfl rfl)
theorem dX0_letShare_8 : decode cX0_letShare 8 = .ok (.dastore, 1) := dk_82 (dk_at dksX0_letShare_0 8 rfl rfl)
theorem dX0_letShare_9 : decode cX0_letShare 9 = .ok (.goto 6, 3) := dk_167 0 6 (dk_at dksX0_letShare_0 9 rfl rfl)
theorem dX0_letShare_12 : decode cX0_letShare 12 = .ok (.astore_n 3, 1) := dk_78 (dk_at dksX0_letShare_0 12 rfl rfl)
theorem dX0_letShare_13 : decode cX0_letShare 13 = .ok (.iconst 1, 1) := dk_4 (dk_at dksX0_letShare_0 13 rfl rfl)
theorem dX0_letShare_14 : decode cX0_letShare 14 = .ok (.ireturn, 1) := dk_172 (dk_at dksX0_letShare_0 14 rfl rfl)
theorem dX0_letShare_15 : decode cX0_letShare 15 = .ok (.iconst 0, 1) := dk_3 (dk_at dksX0_letShare_0 15 rfl rfl)
theorem dX0_letShare_16 : decode cX0_letShare 16 = .ok (.ireturn, 1) := dk_172 (dk_at dksX0_letShare_0 16 rfl rfl)
abbrev cX0_undo : ByteArray := method_35_code
def yX0_undo : MethodName := ⟨RX0, "undo", "(LBoxSpans;[J)I"⟩
def dkwX0_undo_0 : List UInt8 := [43, 3, 42, 182, 0, 128, 133, 80, 167, 0, 6, 77, 4, 172, 3, 172]
abbrev dktX0_undo_0 : List UInt8 := dkwX0_undo_0 ++ []
theorem dksX0_undo_0 : cX0_undo.data.toList.drop 0 = dktX0_undo_0 := by decide +kernel
theorem dX0_undo_0 : decode cX0_undo 0 = .ok (.aload_n 1, 1) := dk_43 (dk_at dksX0_undo_0 0 rfl rfl)
theorem dX0_undo_1 : decode cX0_undo 1 = .ok (.iconst 0, 1) := dk_3 (dk_at dksX0_undo_0 1 rfl rfl)
theorem dX0_undo_2 : decode cX0_undo 2 = .ok (.aload_n 0, 1) := dk_42 (dk_at dksX0_undo_0 2 rfl rfl)
theorem dX0_undo_3 : decode cX0_undo 3 = .ok (.invokevirtual 128, 3) := dk_182 0 128 (dk_at dksX0_undo_0 3 rfl rfl)
theorem dX0_undo_6 : decode cX0_undo 6 = .ok (.i2l, 1) := dk_133 (dk_at dksX0_undo_0 6 rfl rfl)
theorem dX0_undo_7 : decode cX0_undo 7 = .ok (.lastore, 1) := dk_80 (dk_at dksX0_undo_0 7 rfl rfl)
theorem dX0_undo_8 : decode cX0_undo 8 = .ok (.goto 6, 3) := dk_167 0 6 (dk_at dksX0_undo_0 8 rfl rfl)
theorem dX0_undo_11 : decode cX0_undo 11 = .ok (.astore_n 2, 1) := dk_77 (dk_at dksX0_undo_0 11 rfl rfl)
theorem dX0_undo_12 : decode cX0_undo 12 = .ok (.iconst 1, 1) := dk_4 (dk_at dksX0_undo_0 12 rfl rfl)
theorem dX0_undo_13 : decode cX0_undo 13 = .ok (.ireturn, 1) := dk_172 (dk_at dksX0_undo_0 13 rfl rfl)
theorem dX0_undo_14 : decode cX0_undo 14 = .ok (.iconst 0, 1) := dk_3 (dk_at dksX0_undo_0 14 rfl rfl)
theorem dX0_undo_15 : decode cX0_undo 15 = .ok (.ireturn, 1) := dk_172 (dk_at dksX0_undo_0 15 rfl rfl)
abbrev cX0_restore : ByteArray := method_36_code
def yX0_restore : MethodName := ⟨RX0, "restore", "(LBoxSpans;[J)I"⟩
def dkwX0_restore_0 : List UInt8 := [43, 3, 42, 182, 0, 131, 133, 80, 167, 0, 6, 77, 4, 172, 3, 172]
abbrev dktX0_restore_0 : List UInt8 := dkwX0_restore_0 ++ []
theorem dksX0_restore_0 : cX0_restore.data.toList.drop 0 = dktX0_restore_0 := by decide +kernel
theorem dX0_restore_0 : decode cX0_restore 0 = .ok (.aload_n 1, 1) := dk_43 (dk_at dksX0_restore_0 0 rfl rfl)
theorem dX0_restore_1 : decode cX0_restore 1 = .ok (.iconst 0, 1) := dk_3 (dk_at dksX0_restore_0 1 rfl rfl)
theorem dX0_restore_2 : decode cX0_restore 2 = .ok (.aload_n 0, 1) := dk_42 (dk_at dksX0_restore_0 2 rfl rfl)
theorem dX0_restore_3 : decode cX0_restore 3 = .ok (.invokevirtual 131, 3) := dk_182 0 131 (dk_at dksX0_restore_0 3 rfl rfl)
theorem dX0_restore_6 : decode cX0_restore 6 = .ok (.i2l, 1) := dk_133 (dk_at dksX0_restore_0 6 rfl rfl)
theorem dX0_restore_7 : decode cX0_restore 7 = .ok (.lastore, 1) := dk_80 (dk_at dksX0_restore_0 7 rfl rfl)
theorem dX0_restore_8 : decode cX0_restore 8 = .ok (.goto 6, 3) := dk_167 0 6 (dk_at dksX0_restore_0 8 rfl rfl)
theorem dX0_restore_11 : decode cX0_restore 11 = .ok (.astore_n 2, 1) := dk_77 (dk_at dksX0_restore_0 11 rfl rfl)
theorem dX0_restore_12 : decode cX0_restore 12 = .ok (.iconst 1, 1) := dk_4 (dk_at dksX0_restore_0 12 rfl rfl)
theorem dX0_restore_13 : decode cX0_restore 13 = .ok (.ireturn, 1) := dk_172 (dk_at dksX0_restore_0 13 rfl rfl)
theorem dX0_restore_14 : decode cX0_restore 14 = .ok (.iconst 0, 1) := dk_3 (dk_at dksX0_restore_0 14 rfl rfl)
theorem dX0_restore_15 : decode cX0_restore 15 = .ok (.ireturn, 1) := dk_172 (dk_at dksX0_restore_0 15 rfl rfl)
theorem q100 : (Jvm.Cond.initialized "BoxSpansLaw") ∈ lw_all := lw_g (lw_at lw_m1 0 rfl) rfl
theorem q150 : (Jvm.Cond.classLink "BoxSpansLaw" (8 : Nat) "BoxSpans") ∈ lw_all := lw_g (lw_at lw_m1 50 rfl) rfl
theorem q152 : (Jvm.Cond.methodLink "BoxSpansLaw" (134 : Nat) ({ cls := "BoxSpans", name := "<init>", desc := "()V" } : Jvm.MethodName)) ∈ lw_all := lw_g (lw_at lw_m1 52 rfl) rfl
theorem q293 : (Jvm.Cond.methodLink "BoxSpansLaw" (190 : Nat) ({ cls := "BoxSpans", name := "needs", desc := "()I" } : Jvm.MethodName)) ∈ lw_all := lw_g (lw_at lw_m1 193 rfl) rfl
theorem q1045 : (Jvm.Cond.methodLink "BoxSpansLaw" (194 : Nat) ({ cls := "BoxSpans", name := "needsAgain", desc := "()I" } : Jvm.MethodName)) ∈ lw_all := lw_g (lw_at lw_m4 225 rfl) rfl
theorem q1078 : (Jvm.Cond.methodLink "BoxSpansLaw" (249 : Nat) ({ cls := "BoxSpans", name := "isOnce", desc := "()Z" } : Jvm.MethodName)) ∈ lw_all := lw_g (lw_at lw_m5 18 rfl) rfl
theorem q1118 : (Jvm.Cond.methodLink "BoxSpansLaw" (265 : Nat) ({ cls := "BoxSpans", name := "save", desc := "()I" } : Jvm.MethodName)) ∈ lw_all := lw_g (lw_at lw_m5 58 rfl) rfl
theorem q1123 : (Jvm.Cond.methodLink "BoxSpansLaw" (138 : Nat) ({ cls := "BoxSpansLaw", name := "box", desc := "(LBoxSpans;I[J)I" } : Jvm.MethodName)) ∈ lw_all := lw_g (lw_at lw_m5 63 rfl) rfl
theorem q1124 : (Jvm.Cond.static ({ cls := "BoxSpansLaw", name := "box", desc := "(LBoxSpans;I[J)I" } : Jvm.MethodName)) ∈ lw_all := lw_g (lw_at lw_m5 64 rfl) rfl
theorem q1125 : (Jvm.Cond.codeWith ({ cls := "BoxSpansLaw", name := "box", desc := "(LBoxSpans;I[J)I" } : Jvm.MethodName) method_3_code (4 : Nat) (Option.some Jvm.ClassFile.FieldType.int) [((0 : Nat), (9 : Nat), (12 : Nat), (13 : Nat)), ((0 : Nat), (9 : Nat), (15 : Nat), (15 : Nat))]) ∈ lw_all := lw_g (lw_at lw_m5 65 rfl) rfl
theorem q1126 : (Jvm.Cond.classLink "BoxSpansLaw" (13 : Nat) "java/lang/IllegalArgumentException") ∈ lw_all := lw_g (lw_at lw_m5 66 rfl) rfl
theorem q1127 : (Jvm.Cond.classLink "BoxSpansLaw" (15 : Nat) "java/lang/UnsupportedOperationException") ∈ lw_all := lw_g (lw_at lw_m5 67 rfl) rfl
theorem q1128 : (Jvm.Cond.methodLink "BoxSpansLaw" (7 : Nat) ({ cls := "BoxSpans", name := "box", desc := "(I)I" } : Jvm.MethodName)) ∈ lw_all := lw_g (lw_at lw_m5 68 rfl) rfl
theorem q1370 : (Jvm.Cond.methodLink "BoxSpansLaw" (147 : Nat) ({ cls := "BoxSpansLaw", name := "let", desc := "(LBoxSpans;IIII[J)I" } : Jvm.MethodName)) ∈ lw_all := lw_g (lw_at lw_m6 70 rfl) rfl
theorem q1371 : (Jvm.Cond.static ({ cls := "BoxSpansLaw", name := "let", desc := "(LBoxSpans;IIII[J)I" } : Jvm.MethodName)) ∈ lw_all := lw_g (lw_at lw_m6 71 rfl) rfl
theorem q1372 : (Jvm.Cond.codeWith ({ cls := "BoxSpansLaw", name := "let", desc := "(LBoxSpans;IIII[J)I" } : Jvm.MethodName) method_4_code (7 : Nat) (Option.some Jvm.ClassFile.FieldType.int) [((0 : Nat), (14 : Nat), (17 : Nat), (21 : Nat)), ((0 : Nat), (14 : Nat), (21 : Nat), (13 : Nat)), ((0 : Nat), (14 : Nat), (25 : Nat), (15 : Nat))]) ∈ lw_all := lw_g (lw_at lw_m6 72 rfl) rfl
theorem q1373 : (Jvm.Cond.classLink "BoxSpansLaw" (21 : Nat) "java/lang/IndexOutOfBoundsException") ∈ lw_all := lw_g (lw_at lw_m6 73 rfl) rfl
theorem q1389 : (Jvm.Cond.methodLink "BoxSpansLaw" (17 : Nat) ({ cls := "BoxSpans", name := "let", desc := "(IIII)I" } : Jvm.MethodName)) ∈ lw_all := lw_g (lw_at lw_m6 89 rfl) rfl
theorem q1446 : (Jvm.Cond.methodLink "BoxSpansLaw" (151 : Nat) ({ cls := "BoxSpansLaw", name := "cancel", desc := "(LBoxSpans;I[J)I" } : Jvm.MethodName)) ∈ lw_all := lw_g (lw_at lw_m6 146 rfl) rfl
theorem q1447 : (Jvm.Cond.static ({ cls := "BoxSpansLaw", name := "cancel", desc := "(LBoxSpans;I[J)I" } : Jvm.MethodName)) ∈ lw_all := lw_g (lw_at lw_m6 147 rfl) rfl
theorem q1448 : (Jvm.Cond.codeWith ({ cls := "BoxSpansLaw", name := "cancel", desc := "(LBoxSpans;I[J)I" } : Jvm.MethodName) method_5_code (4 : Nat) (Option.some Jvm.ClassFile.FieldType.int) [((0 : Nat), (9 : Nat), (12 : Nat), (21 : Nat)), ((0 : Nat), (9 : Nat), (15 : Nat), (15 : Nat))]) ∈ lw_all := lw_g (lw_at lw_m6 148 rfl) rfl
theorem q1449 : (Jvm.Cond.methodLink "BoxSpansLaw" (23 : Nat) ({ cls := "BoxSpans", name := "cancel", desc := "(I)I" } : Jvm.MethodName)) ∈ lw_all := lw_g (lw_at lw_m6 149 rfl) rfl
theorem q1482 : (Jvm.Cond.methodLink "BoxSpansLaw" (154 : Nat) ({ cls := "BoxSpansLaw", name := "move", desc := "(LBoxSpans;II[J)I" } : Jvm.MethodName)) ∈ lw_all := lw_g (lw_at lw_m6 182 rfl) rfl
theorem q1483 : (Jvm.Cond.static ({ cls := "BoxSpansLaw", name := "move", desc := "(LBoxSpans;II[J)I" } : Jvm.MethodName)) ∈ lw_all := lw_g (lw_at lw_m6 183 rfl) rfl
theorem q1484 : (Jvm.Cond.codeWith ({ cls := "BoxSpansLaw", name := "move", desc := "(LBoxSpans;II[J)I" } : Jvm.MethodName) method_6_code (5 : Nat) (Option.some Jvm.ClassFile.FieldType.int) [((0 : Nat), (10 : Nat), (13 : Nat), (21 : Nat)), ((0 : Nat), (10 : Nat), (17 : Nat), (13 : Nat)), ((0 : Nat), (10 : Nat), (21 : Nat), (15 : Nat))]) ∈ lw_all := lw_g (lw_at lw_m6 184 rfl) rfl
theorem q1485 : (Jvm.Cond.methodLink "BoxSpansLaw" (26 : Nat) ({ cls := "BoxSpans", name := "move", desc := "(II)I" } : Jvm.MethodName)) ∈ lw_all := lw_g (lw_at lw_m6 185 rfl) rfl
theorem q1521 : (Jvm.Cond.methodLink "BoxSpansLaw" (158 : Nat) ({ cls := "BoxSpansLaw", name := "split", desc := "(LBoxSpans;II[J)I" } : Jvm.MethodName)) ∈ lw_all := lw_g (lw_at lw_m6 221 rfl) rfl
theorem q1522 : (Jvm.Cond.static ({ cls := "BoxSpansLaw", name := "split", desc := "(LBoxSpans;II[J)I" } : Jvm.MethodName)) ∈ lw_all := lw_g (lw_at lw_m6 222 rfl) rfl
theorem q1523 : (Jvm.Cond.codeWith ({ cls := "BoxSpansLaw", name := "split", desc := "(LBoxSpans;II[J)I" } : Jvm.MethodName) method_7_code (5 : Nat) (Option.some Jvm.ClassFile.FieldType.int) [((0 : Nat), (10 : Nat), (13 : Nat), (21 : Nat)), ((0 : Nat), (10 : Nat), (17 : Nat), (15 : Nat))]) ∈ lw_all := lw_g (lw_at lw_m6 223 rfl) rfl
theorem q1524 : (Jvm.Cond.methodLink "BoxSpansLaw" (30 : Nat) ({ cls := "BoxSpans", name := "split", desc := "(II)I" } : Jvm.MethodName)) ∈ lw_all := lw_g (lw_at lw_m6 224 rfl) rfl
theorem q1541 : (Jvm.Cond.methodLink "BoxSpansLaw" (161 : Nat) ({ cls := "BoxSpansLaw", name := "join", desc := "(LBoxSpans;II[J)I" } : Jvm.MethodName)) ∈ lw_all := lw_g (lw_at lw_m7 1 rfl) rfl
theorem q1542 : (Jvm.Cond.static ({ cls := "BoxSpansLaw", name := "join", desc := "(LBoxSpans;II[J)I" } : Jvm.MethodName)) ∈ lw_all := lw_g (lw_at lw_m7 2 rfl) rfl
theorem q1543 : (Jvm.Cond.codeWith ({ cls := "BoxSpansLaw", name := "join", desc := "(LBoxSpans;II[J)I" } : Jvm.MethodName) method_8_code (5 : Nat) (Option.some Jvm.ClassFile.FieldType.int) [((0 : Nat), (10 : Nat), (13 : Nat), (21 : Nat)), ((0 : Nat), (10 : Nat), (17 : Nat), (13 : Nat)), ((0 : Nat), (10 : Nat), (21 : Nat), (15 : Nat))]) ∈ lw_all := lw_g (lw_at lw_m7 3 rfl) rfl
theorem q1544 : (Jvm.Cond.methodLink "BoxSpansLaw" (33 : Nat) ({ cls := "BoxSpans", name := "join", desc := "(II)I" } : Jvm.MethodName)) ∈ lw_all := lw_g (lw_at lw_m7 4 rfl) rfl
theorem q1567 : (Jvm.Cond.methodLink "BoxSpansLaw" (164 : Nat) ({ cls := "BoxSpansLaw", name := "lettingOf", desc := "(LBoxSpans;II[J)I" } : Jvm.MethodName)) ∈ lw_all := lw_g (lw_at lw_m7 27 rfl) rfl
theorem q1568 : (Jvm.Cond.static ({ cls := "BoxSpansLaw", name := "lettingOf", desc := "(LBoxSpans;II[J)I" } : Jvm.MethodName)) ∈ lw_all := lw_g (lw_at lw_m7 28 rfl) rfl
theorem q1569 : (Jvm.Cond.codeWith ({ cls := "BoxSpansLaw", name := "lettingOf", desc := "(LBoxSpans;II[J)I" } : Jvm.MethodName) method_9_code (5 : Nat) (Option.some Jvm.ClassFile.FieldType.int) [((0 : Nat), (10 : Nat), (13 : Nat), (21 : Nat)), ((0 : Nat), (10 : Nat), (17 : Nat), (13 : Nat))]) ∈ lw_all := lw_g (lw_at lw_m7 29 rfl) rfl
theorem q1570 : (Jvm.Cond.methodLink "BoxSpansLaw" (36 : Nat) ({ cls := "BoxSpans", name := "lettingOf", desc := "(II)I" } : Jvm.MethodName)) ∈ lw_all := lw_g (lw_at lw_m7 30 rfl) rfl
theorem q1583 : (Jvm.Cond.methodLink "BoxSpansLaw" (167 : Nat) ({ cls := "BoxSpansLaw", name := "at", desc := "(LBoxSpans;II[J)I" } : Jvm.MethodName)) ∈ lw_all := lw_g (lw_at lw_m7 43 rfl) rfl
theorem q1584 : (Jvm.Cond.static ({ cls := "BoxSpansLaw", name := "at", desc := "(LBoxSpans;II[J)I" } : Jvm.MethodName)) ∈ lw_all := lw_g (lw_at lw_m7 44 rfl) rfl
theorem q1585 : (Jvm.Cond.codeWith ({ cls := "BoxSpansLaw", name := "at", desc := "(LBoxSpans;II[J)I" } : Jvm.MethodName) method_10_code (5 : Nat) (Option.some Jvm.ClassFile.FieldType.int) [((0 : Nat), (10 : Nat), (13 : Nat), (21 : Nat)), ((0 : Nat), (10 : Nat), (17 : Nat), (13 : Nat))]) ∈ lw_all := lw_g (lw_at lw_m7 45 rfl) rfl
theorem q1586 : (Jvm.Cond.methodLink "BoxSpansLaw" (39 : Nat) ({ cls := "BoxSpans", name := "at", desc := "(II)I" } : Jvm.MethodName)) ∈ lw_all := lw_g (lw_at lw_m7 46 rfl) rfl
theorem q1597 : (Jvm.Cond.methodLink "BoxSpansLaw" (170 : Nat) ({ cls := "BoxSpansLaw", name := "wish", desc := "(LBoxSpans;III[J)I" } : Jvm.MethodName)) ∈ lw_all := lw_g (lw_at lw_m7 57 rfl) rfl
theorem q1598 : (Jvm.Cond.static ({ cls := "BoxSpansLaw", name := "wish", desc := "(LBoxSpans;III[J)I" } : Jvm.MethodName)) ∈ lw_all := lw_g (lw_at lw_m7 58 rfl) rfl
theorem q1599 : (Jvm.Cond.codeWith ({ cls := "BoxSpansLaw", name := "wish", desc := "(LBoxSpans;III[J)I" } : Jvm.MethodName) method_11_code (6 : Nat) (Option.some Jvm.ClassFile.FieldType.int) [((0 : Nat), (12 : Nat), (15 : Nat), (13 : Nat)), ((0 : Nat), (12 : Nat), (19 : Nat), (15 : Nat))]) ∈ lw_all := lw_g (lw_at lw_m7 59 rfl) rfl
theorem q1600 : (Jvm.Cond.methodLink "BoxSpansLaw" (42 : Nat) ({ cls := "BoxSpans", name := "wish", desc := "(III)I" } : Jvm.MethodName)) ∈ lw_all := lw_g (lw_at lw_m7 60 rfl) rfl
theorem q1621 : (Jvm.Cond.methodLink "BoxSpansLaw" (174 : Nat) ({ cls := "BoxSpansLaw", name := "drop", desc := "(LBoxSpans;I[J)I" } : Jvm.MethodName)) ∈ lw_all := lw_g (lw_at lw_m7 81 rfl) rfl
theorem q1622 : (Jvm.Cond.static ({ cls := "BoxSpansLaw", name := "drop", desc := "(LBoxSpans;I[J)I" } : Jvm.MethodName)) ∈ lw_all := lw_g (lw_at lw_m7 82 rfl) rfl
theorem q1623 : (Jvm.Cond.codeWith ({ cls := "BoxSpansLaw", name := "drop", desc := "(LBoxSpans;I[J)I" } : Jvm.MethodName) method_12_code (4 : Nat) (Option.some Jvm.ClassFile.FieldType.int) [((0 : Nat), (9 : Nat), (12 : Nat), (21 : Nat))]) ∈ lw_all := lw_g (lw_at lw_m7 83 rfl) rfl
theorem q1624 : (Jvm.Cond.methodLink "BoxSpansLaw" (46 : Nat) ({ cls := "BoxSpans", name := "drop", desc := "(I)I" } : Jvm.MethodName)) ∈ lw_all := lw_g (lw_at lw_m7 84 rfl) rfl
theorem q1660 : (Jvm.Cond.methodLink "BoxSpansLaw" (177 : Nat) ({ cls := "BoxSpansLaw", name := "wishOf", desc := "(LBoxSpans;II[J)I" } : Jvm.MethodName)) ∈ lw_all := lw_g (lw_at lw_m7 120 rfl) rfl
theorem q1661 : (Jvm.Cond.static ({ cls := "BoxSpansLaw", name := "wishOf", desc := "(LBoxSpans;II[J)I" } : Jvm.MethodName)) ∈ lw_all := lw_g (lw_at lw_m7 121 rfl) rfl
theorem q1662 : (Jvm.Cond.codeWith ({ cls := "BoxSpansLaw", name := "wishOf", desc := "(LBoxSpans;II[J)I" } : Jvm.MethodName) method_13_code (5 : Nat) (Option.some Jvm.ClassFile.FieldType.int) [((0 : Nat), (10 : Nat), (13 : Nat), (21 : Nat)), ((0 : Nat), (10 : Nat), (17 : Nat), (13 : Nat))]) ∈ lw_all := lw_g (lw_at lw_m7 122 rfl) rfl
theorem q1663 : (Jvm.Cond.methodLink "BoxSpansLaw" (49 : Nat) ({ cls := "BoxSpans", name := "wishOf", desc := "(II)I" } : Jvm.MethodName)) ∈ lw_all := lw_g (lw_at lw_m7 123 rfl) rfl
theorem q1676 : (Jvm.Cond.methodLink "BoxSpansLaw" (180 : Nat) ({ cls := "BoxSpansLaw", name := "over", desc := "(LBoxSpans;I[J)I" } : Jvm.MethodName)) ∈ lw_all := lw_g (lw_at lw_m7 136 rfl) rfl
theorem q1677 : (Jvm.Cond.static ({ cls := "BoxSpansLaw", name := "over", desc := "(LBoxSpans;I[J)I" } : Jvm.MethodName)) ∈ lw_all := lw_g (lw_at lw_m7 137 rfl) rfl
theorem q1678 : (Jvm.Cond.codeWith ({ cls := "BoxSpansLaw", name := "over", desc := "(LBoxSpans;I[J)I" } : Jvm.MethodName) method_14_code (4 : Nat) (Option.some Jvm.ClassFile.FieldType.int) [((0 : Nat), (9 : Nat), (12 : Nat), (13 : Nat))]) ∈ lw_all := lw_g (lw_at lw_m7 138 rfl) rfl
theorem q1679 : (Jvm.Cond.methodLink "BoxSpansLaw" (52 : Nat) ({ cls := "BoxSpans", name := "over", desc := "(I)I" } : Jvm.MethodName)) ∈ lw_all := lw_g (lw_at lw_m7 139 rfl) rfl
theorem q1683 : (Jvm.Cond.methodLink "BoxSpansLaw" (183 : Nat) ({ cls := "BoxSpansLaw", name := "overAgain", desc := "(LBoxSpans;I[J)I" } : Jvm.MethodName)) ∈ lw_all := lw_g (lw_at lw_m7 143 rfl) rfl
theorem q1684 : (Jvm.Cond.static ({ cls := "BoxSpansLaw", name := "overAgain", desc := "(LBoxSpans;I[J)I" } : Jvm.MethodName)) ∈ lw_all := lw_g (lw_at lw_m7 144 rfl) rfl
theorem q1685 : (Jvm.Cond.codeWith ({ cls := "BoxSpansLaw", name := "overAgain", desc := "(LBoxSpans;I[J)I" } : Jvm.MethodName) method_15_code (4 : Nat) (Option.some Jvm.ClassFile.FieldType.int) [((0 : Nat), (9 : Nat), (12 : Nat), (13 : Nat))]) ∈ lw_all := lw_g (lw_at lw_m7 145 rfl) rfl
theorem q1686 : (Jvm.Cond.methodLink "BoxSpansLaw" (55 : Nat) ({ cls := "BoxSpans", name := "overAgain", desc := "(I)I" } : Jvm.MethodName)) ∈ lw_all := lw_g (lw_at lw_m7 146 rfl) rfl
theorem q1694 : (Jvm.Cond.methodLink "BoxSpansLaw" (186 : Nat) ({ cls := "BoxSpansLaw", name := "busiest", desc := "(LBoxSpans;[J)I" } : Jvm.MethodName)) ∈ lw_all := lw_g (lw_at lw_m7 154 rfl) rfl
theorem q1695 : (Jvm.Cond.static ({ cls := "BoxSpansLaw", name := "busiest", desc := "(LBoxSpans;[J)I" } : Jvm.MethodName)) ∈ lw_all := lw_g (lw_at lw_m7 155 rfl) rfl
theorem q1696 : (Jvm.Cond.codeWith ({ cls := "BoxSpansLaw", name := "busiest", desc := "(LBoxSpans;[J)I" } : Jvm.MethodName) method_16_code (3 : Nat) (Option.some Jvm.ClassFile.FieldType.int) [((0 : Nat), (8 : Nat), (11 : Nat), (62 : Nat))]) ∈ lw_all := lw_g (lw_at lw_m7 156 rfl) rfl
theorem q1697 : (Jvm.Cond.classLink "BoxSpansLaw" (62 : Nat) "java/util/NoSuchElementException") ∈ lw_all := lw_g (lw_at lw_m7 157 rfl) rfl
theorem q1698 : (Jvm.Cond.methodLink "BoxSpansLaw" (58 : Nat) ({ cls := "BoxSpans", name := "busiest", desc := "()I" } : Jvm.MethodName)) ∈ lw_all := lw_g (lw_at lw_m7 158 rfl) rfl
theorem q1722 : (Jvm.Cond.methodLink "BoxSpansLaw" (198 : Nat) ({ cls := "BoxSpansLaw", name := "allot", desc := "(LBoxSpans;[J)I" } : Jvm.MethodName)) ∈ lw_all := lw_g (lw_at lw_m7 182 rfl) rfl
theorem q1723 : (Jvm.Cond.static ({ cls := "BoxSpansLaw", name := "allot", desc := "(LBoxSpans;[J)I" } : Jvm.MethodName)) ∈ lw_all := lw_g (lw_at lw_m7 183 rfl) rfl
theorem q1724 : (Jvm.Cond.codeWith ({ cls := "BoxSpansLaw", name := "allot", desc := "(LBoxSpans;[J)I" } : Jvm.MethodName) method_17_code (3 : Nat) (Option.some Jvm.ClassFile.FieldType.int) [((0 : Nat), (8 : Nat), (11 : Nat), (15 : Nat))]) ∈ lw_all := lw_g (lw_at lw_m7 184 rfl) rfl
theorem q1725 : (Jvm.Cond.methodLink "BoxSpansLaw" (64 : Nat) ({ cls := "BoxSpans", name := "allot", desc := "()I" } : Jvm.MethodName)) ∈ lw_all := lw_g (lw_at lw_m7 185 rfl) rfl
theorem q1775 : (Jvm.Cond.methodLink "BoxSpansLaw" (201 : Nat) ({ cls := "BoxSpansLaw", name := "boxOf", desc := "(LBoxSpans;II[J)I" } : Jvm.MethodName)) ∈ lw_all := lw_g (lw_at lw_m7 235 rfl) rfl
theorem q1776 : (Jvm.Cond.static ({ cls := "BoxSpansLaw", name := "boxOf", desc := "(LBoxSpans;II[J)I" } : Jvm.MethodName)) ∈ lw_all := lw_g (lw_at lw_m7 236 rfl) rfl
theorem q1777 : (Jvm.Cond.codeWith ({ cls := "BoxSpansLaw", name := "boxOf", desc := "(LBoxSpans;II[J)I" } : Jvm.MethodName) method_18_code (5 : Nat) (Option.some Jvm.ClassFile.FieldType.int) [((0 : Nat), (10 : Nat), (13 : Nat), (21 : Nat)), ((0 : Nat), (10 : Nat), (17 : Nat), (13 : Nat))]) ∈ lw_all := lw_g (lw_at lw_m7 237 rfl) rfl
theorem q1778 : (Jvm.Cond.methodLink "BoxSpansLaw" (67 : Nat) ({ cls := "BoxSpans", name := "boxOf", desc := "(II)I" } : Jvm.MethodName)) ∈ lw_all := lw_g (lw_at lw_m7 238 rfl) rfl
theorem q1840 : (Jvm.Cond.methodLink "BoxSpansLaw" (204 : Nat) ({ cls := "BoxSpansLaw", name := "span", desc := "(LBoxSpans;IIZ[J)I" } : Jvm.MethodName)) ∈ lw_all := lw_g (lw_at lw_m8 60 rfl) rfl
theorem q1841 : (Jvm.Cond.static ({ cls := "BoxSpansLaw", name := "span", desc := "(LBoxSpans;IIZ[J)I" } : Jvm.MethodName)) ∈ lw_all := lw_g (lw_at lw_m8 61 rfl) rfl
theorem q1842 : (Jvm.Cond.codeWith ({ cls := "BoxSpansLaw", name := "span", desc := "(LBoxSpans;IIZ[J)I" } : Jvm.MethodName) method_19_code (6 : Nat) (Option.some Jvm.ClassFile.FieldType.int) [((0 : Nat), (12 : Nat), (15 : Nat), (21 : Nat)), ((0 : Nat), (12 : Nat), (19 : Nat), (62 : Nat))]) ∈ lw_all := lw_g (lw_at lw_m8 62 rfl) rfl
theorem q1843 : (Jvm.Cond.methodLink "BoxSpansLaw" (70 : Nat) ({ cls := "BoxSpans", name := "span", desc := "(IIZ)I" } : Jvm.MethodName)) ∈ lw_all := lw_g (lw_at lw_m8 63 rfl) rfl
theorem q1858 : (Jvm.Cond.methodLink "BoxSpansLaw" (208 : Nat) ({ cls := "BoxSpansLaw", name := "gap", desc := "(LBoxSpans;IIZ[J)I" } : Jvm.MethodName)) ∈ lw_all := lw_g (lw_at lw_m8 78 rfl) rfl
theorem q1859 : (Jvm.Cond.static ({ cls := "BoxSpansLaw", name := "gap", desc := "(LBoxSpans;IIZ[J)I" } : Jvm.MethodName)) ∈ lw_all := lw_g (lw_at lw_m8 79 rfl) rfl
theorem q1860 : (Jvm.Cond.codeWith ({ cls := "BoxSpansLaw", name := "gap", desc := "(LBoxSpans;IIZ[J)I" } : Jvm.MethodName) method_20_code (6 : Nat) (Option.some Jvm.ClassFile.FieldType.int) [((0 : Nat), (12 : Nat), (15 : Nat), (21 : Nat)), ((0 : Nat), (12 : Nat), (19 : Nat), (62 : Nat))]) ∈ lw_all := lw_g (lw_at lw_m8 80 rfl) rfl
theorem q1861 : (Jvm.Cond.methodLink "BoxSpansLaw" (74 : Nat) ({ cls := "BoxSpans", name := "gap", desc := "(IIZ)I" } : Jvm.MethodName)) ∈ lw_all := lw_g (lw_at lw_m8 81 rfl) rfl
theorem q1865 : (Jvm.Cond.methodLink "BoxSpansLaw" (211 : Nat) ({ cls := "BoxSpansLaw", name := "fits", desc := "(LBoxSpans;II[J)I" } : Jvm.MethodName)) ∈ lw_all := lw_g (lw_at lw_m8 85 rfl) rfl
theorem q1866 : (Jvm.Cond.static ({ cls := "BoxSpansLaw", name := "fits", desc := "(LBoxSpans;II[J)I" } : Jvm.MethodName)) ∈ lw_all := lw_g (lw_at lw_m8 86 rfl) rfl
theorem q1867 : (Jvm.Cond.codeWith ({ cls := "BoxSpansLaw", name := "fits", desc := "(LBoxSpans;II[J)I" } : Jvm.MethodName) method_21_code (5 : Nat) (Option.some Jvm.ClassFile.FieldType.int) [((0 : Nat), (10 : Nat), (13 : Nat), (21 : Nat)), ((0 : Nat), (10 : Nat), (17 : Nat), (13 : Nat)), ((0 : Nat), (10 : Nat), (21 : Nat), (62 : Nat))]) ∈ lw_all := lw_g (lw_at lw_m8 87 rfl) rfl
theorem q1868 : (Jvm.Cond.methodLink "BoxSpansLaw" (77 : Nat) ({ cls := "BoxSpans", name := "fits", desc := "(II)I" } : Jvm.MethodName)) ∈ lw_all := lw_g (lw_at lw_m8 88 rfl) rfl
theorem q1877 : (Jvm.Cond.methodLink "BoxSpansLaw" (214 : Nat) ({ cls := "BoxSpansLaw", name := "roomFor", desc := "(LBoxSpans;III[J)I" } : Jvm.MethodName)) ∈ lw_all := lw_g (lw_at lw_m8 97 rfl) rfl
theorem q1878 : (Jvm.Cond.static ({ cls := "BoxSpansLaw", name := "roomFor", desc := "(LBoxSpans;III[J)I" } : Jvm.MethodName)) ∈ lw_all := lw_g (lw_at lw_m8 98 rfl) rfl
theorem q1879 : (Jvm.Cond.codeWith ({ cls := "BoxSpansLaw", name := "roomFor", desc := "(LBoxSpans;III[J)I" } : Jvm.MethodName) method_22_code (6 : Nat) (Option.some Jvm.ClassFile.FieldType.int) [((0 : Nat), (12 : Nat), (15 : Nat), (13 : Nat)), ((0 : Nat), (12 : Nat), (19 : Nat), (62 : Nat))]) ∈ lw_all := lw_g (lw_at lw_m8 99 rfl) rfl
theorem q1880 : (Jvm.Cond.methodLink "BoxSpansLaw" (80 : Nat) ({ cls := "BoxSpans", name := "roomFor", desc := "(III)I" } : Jvm.MethodName)) ∈ lw_all := lw_g (lw_at lw_m8 100 rfl) rfl
theorem q1885 : (Jvm.Cond.methodLink "BoxSpansLaw" (217 : Nat) ({ cls := "BoxSpansLaw", name := "hour", desc := "(LBoxSpans;II[J)I" } : Jvm.MethodName)) ∈ lw_all := lw_g (lw_at lw_m8 105 rfl) rfl
theorem q1886 : (Jvm.Cond.static ({ cls := "BoxSpansLaw", name := "hour", desc := "(LBoxSpans;II[J)I" } : Jvm.MethodName)) ∈ lw_all := lw_g (lw_at lw_m8 106 rfl) rfl
theorem q1887 : (Jvm.Cond.codeWith ({ cls := "BoxSpansLaw", name := "hour", desc := "(LBoxSpans;II[J)I" } : Jvm.MethodName) method_23_code (5 : Nat) (Option.some Jvm.ClassFile.FieldType.int) [((0 : Nat), (10 : Nat), (13 : Nat), (21 : Nat)), ((0 : Nat), (10 : Nat), (17 : Nat), (13 : Nat))]) ∈ lw_all := lw_g (lw_at lw_m8 107 rfl) rfl
theorem q1888 : (Jvm.Cond.methodLink "BoxSpansLaw" (83 : Nat) ({ cls := "BoxSpans", name := "hour", desc := "(II)I" } : Jvm.MethodName)) ∈ lw_all := lw_g (lw_at lw_m8 108 rfl) rfl
theorem q1900 : (Jvm.Cond.methodLink "BoxSpansLaw" (220 : Nat) ({ cls := "BoxSpansLaw", name := "ranked", desc := "(LBoxSpans;I[J)I" } : Jvm.MethodName)) ∈ lw_all := lw_g (lw_at lw_m8 120 rfl) rfl
theorem q1901 : (Jvm.Cond.static ({ cls := "BoxSpansLaw", name := "ranked", desc := "(LBoxSpans;I[J)I" } : Jvm.MethodName)) ∈ lw_all := lw_g (lw_at lw_m8 121 rfl) rfl
theorem q1902 : (Jvm.Cond.codeWith ({ cls := "BoxSpansLaw", name := "ranked", desc := "(LBoxSpans;I[J)I" } : Jvm.MethodName) method_24_code (4 : Nat) (Option.some Jvm.ClassFile.FieldType.int) [((0 : Nat), (9 : Nat), (12 : Nat), (62 : Nat))]) ∈ lw_all := lw_g (lw_at lw_m8 122 rfl) rfl
theorem q1903 : (Jvm.Cond.methodLink "BoxSpansLaw" (86 : Nat) ({ cls := "BoxSpans", name := "ranked", desc := "(I)I" } : Jvm.MethodName)) ∈ lw_all := lw_g (lw_at lw_m8 123 rfl) rfl
theorem q1917 : (Jvm.Cond.methodLink "BoxSpansLaw" (223 : Nat) ({ cls := "BoxSpansLaw", name := "type", desc := "(LBoxSpans;C[J)I" } : Jvm.MethodName)) ∈ lw_all := lw_g (lw_at lw_m8 137 rfl) rfl
theorem q1918 : (Jvm.Cond.static ({ cls := "BoxSpansLaw", name := "type", desc := "(LBoxSpans;C[J)I" } : Jvm.MethodName)) ∈ lw_all := lw_g (lw_at lw_m8 138 rfl) rfl
theorem q1919 : (Jvm.Cond.codeWith ({ cls := "BoxSpansLaw", name := "type", desc := "(LBoxSpans;C[J)I" } : Jvm.MethodName) method_25_code (4 : Nat) (Option.some Jvm.ClassFile.FieldType.int) [((0 : Nat), (9 : Nat), (12 : Nat), (93 : Nat))]) ∈ lw_all := lw_g (lw_at lw_m8 139 rfl) rfl
theorem q1920 : (Jvm.Cond.classLink "BoxSpansLaw" (93 : Nat) "java/lang/IllegalStateException") ∈ lw_all := lw_g (lw_at lw_m8 140 rfl) rfl
theorem q1921 : (Jvm.Cond.methodLink "BoxSpansLaw" (89 : Nat) ({ cls := "BoxSpans", name := "type", desc := "(C)I" } : Jvm.MethodName)) ∈ lw_all := lw_g (lw_at lw_m8 141 rfl) rfl
theorem q1964 : (Jvm.Cond.methodLink "BoxSpansLaw" (227 : Nat) ({ cls := "BoxSpansLaw", name := "read", desc := "(LBoxSpans;[J)I" } : Jvm.MethodName)) ∈ lw_all := lw_g (lw_at lw_m8 184 rfl) rfl
theorem q1965 : (Jvm.Cond.static ({ cls := "BoxSpansLaw", name := "read", desc := "(LBoxSpans;[J)I" } : Jvm.MethodName)) ∈ lw_all := lw_g (lw_at lw_m8 185 rfl) rfl
theorem q1966 : (Jvm.Cond.codeWith ({ cls := "BoxSpansLaw", name := "read", desc := "(LBoxSpans;[J)I" } : Jvm.MethodName) method_26_code (3 : Nat) (Option.some Jvm.ClassFile.FieldType.int) [((0 : Nat), (8 : Nat), (11 : Nat), (13 : Nat)), ((0 : Nat), (8 : Nat), (14 : Nat), (15 : Nat))]) ∈ lw_all := lw_g (lw_at lw_m8 186 rfl) rfl
theorem q1967 : (Jvm.Cond.methodLink "BoxSpansLaw" (95 : Nat) ({ cls := "BoxSpans", name := "read", desc := "()I" } : Jvm.MethodName)) ∈ lw_all := lw_g (lw_at lw_m8 187 rfl) rfl
theorem q2426 : (Jvm.Cond.methodLink "BoxSpansLaw" (230 : Nat) ({ cls := "BoxSpansLaw", name := "errorPosition", desc := "(LBoxSpans;[J)I" } : Jvm.MethodName)) ∈ lw_all := lw_g (lw_at lw_m10 166 rfl) rfl
theorem q2427 : (Jvm.Cond.static ({ cls := "BoxSpansLaw", name := "errorPosition", desc := "(LBoxSpans;[J)I" } : Jvm.MethodName)) ∈ lw_all := lw_g (lw_at lw_m10 167 rfl) rfl
theorem q2428 : (Jvm.Cond.codeWith ({ cls := "BoxSpansLaw", name := "errorPosition", desc := "(LBoxSpans;[J)I" } : Jvm.MethodName) method_27_code (3 : Nat) (Option.some Jvm.ClassFile.FieldType.int) [((0 : Nat), (8 : Nat), (11 : Nat), (62 : Nat))]) ∈ lw_all := lw_g (lw_at lw_m10 168 rfl) rfl
theorem q2429 : (Jvm.Cond.methodLink "BoxSpansLaw" (98 : Nat) ({ cls := "BoxSpans", name := "errorPosition", desc := "()I" } : Jvm.MethodName)) ∈ lw_all := lw_g (lw_at lw_m10 169 rfl) rfl
theorem q2433 : (Jvm.Cond.methodLink "BoxSpansLaw" (233 : Nat) ({ cls := "BoxSpansLaw", name := "refusal", desc := "(LBoxSpans;ZZ[J)I" } : Jvm.MethodName)) ∈ lw_all := lw_g (lw_at lw_m10 173 rfl) rfl
theorem q2434 : (Jvm.Cond.static ({ cls := "BoxSpansLaw", name := "refusal", desc := "(LBoxSpans;ZZ[J)I" } : Jvm.MethodName)) ∈ lw_all := lw_g (lw_at lw_m10 174 rfl) rfl
theorem q2435 : (Jvm.Cond.codeWith ({ cls := "BoxSpansLaw", name := "refusal", desc := "(LBoxSpans;ZZ[J)I" } : Jvm.MethodName) method_28_code (5 : Nat) (Option.some Jvm.ClassFile.FieldType.int) [((0 : Nat), (10 : Nat), (13 : Nat), (62 : Nat))]) ∈ lw_all := lw_g (lw_at lw_m10 175 rfl) rfl
theorem q2436 : (Jvm.Cond.methodLink "BoxSpansLaw" (101 : Nat) ({ cls := "BoxSpans", name := "refusal", desc := "(ZZ)I" } : Jvm.MethodName)) ∈ lw_all := lw_g (lw_at lw_m10 176 rfl) rfl
theorem q2450 : (Jvm.Cond.methodLink "BoxSpansLaw" (237 : Nat) ({ cls := "BoxSpansLaw", name := "describe", desc := "(LBoxSpans;I[J)I" } : Jvm.MethodName)) ∈ lw_all := lw_g (lw_at lw_m10 190 rfl) rfl
theorem q2451 : (Jvm.Cond.static ({ cls := "BoxSpansLaw", name := "describe", desc := "(LBoxSpans;I[J)I" } : Jvm.MethodName)) ∈ lw_all := lw_g (lw_at lw_m10 191 rfl) rfl
theorem q2452 : (Jvm.Cond.codeWith ({ cls := "BoxSpansLaw", name := "describe", desc := "(LBoxSpans;I[J)I" } : Jvm.MethodName) method_29_code (4 : Nat) (Option.some Jvm.ClassFile.FieldType.int) [((0 : Nat), (9 : Nat), (12 : Nat), (21 : Nat))]) ∈ lw_all := lw_g (lw_at lw_m10 192 rfl) rfl
theorem q2453 : (Jvm.Cond.methodLink "BoxSpansLaw" (105 : Nat) ({ cls := "BoxSpans", name := "describe", desc := "(I)I" } : Jvm.MethodName)) ∈ lw_all := lw_g (lw_at lw_m10 193 rfl) rfl
theorem q2471 : (Jvm.Cond.methodLink "BoxSpansLaw" (240 : Nat) ({ cls := "BoxSpansLaw", name := "show", desc := "(LBoxSpans;II[J)I" } : Jvm.MethodName)) ∈ lw_all := lw_g (lw_at lw_m10 211 rfl) rfl
theorem q2472 : (Jvm.Cond.static ({ cls := "BoxSpansLaw", name := "show", desc := "(LBoxSpans;II[J)I" } : Jvm.MethodName)) ∈ lw_all := lw_g (lw_at lw_m10 212 rfl) rfl
theorem q2473 : (Jvm.Cond.codeWith ({ cls := "BoxSpansLaw", name := "show", desc := "(LBoxSpans;II[J)I" } : Jvm.MethodName) method_30_code (5 : Nat) (Option.some Jvm.ClassFile.FieldType.int) [((0 : Nat), (10 : Nat), (13 : Nat), (21 : Nat)), ((0 : Nat), (10 : Nat), (17 : Nat), (13 : Nat))]) ∈ lw_all := lw_g (lw_at lw_m10 213 rfl) rfl
theorem q2474 : (Jvm.Cond.methodLink "BoxSpansLaw" (108 : Nat) ({ cls := "BoxSpans", name := "show", desc := "(II)I" } : Jvm.MethodName)) ∈ lw_all := lw_g (lw_at lw_m10 214 rfl) rfl
theorem q2480 : (Jvm.Cond.methodLink "BoxSpansLaw" (243 : Nat) ({ cls := "BoxSpansLaw", name := "written", desc := "(LBoxSpans;I[J)I" } : Jvm.MethodName)) ∈ lw_all := lw_g (lw_at lw_m10 220 rfl) rfl
theorem q2481 : (Jvm.Cond.static ({ cls := "BoxSpansLaw", name := "written", desc := "(LBoxSpans;I[J)I" } : Jvm.MethodName)) ∈ lw_all := lw_g (lw_at lw_m10 221 rfl) rfl
theorem q2482 : (Jvm.Cond.codeWith ({ cls := "BoxSpansLaw", name := "written", desc := "(LBoxSpans;I[J)I" } : Jvm.MethodName) method_31_code (4 : Nat) (Option.some Jvm.ClassFile.FieldType.int) [((0 : Nat), (9 : Nat), (12 : Nat), (62 : Nat))]) ∈ lw_all := lw_g (lw_at lw_m10 222 rfl) rfl
theorem q2483 : (Jvm.Cond.methodLink "BoxSpansLaw" (111 : Nat) ({ cls := "BoxSpans", name := "written", desc := "(I)C" } : Jvm.MethodName)) ∈ lw_all := lw_g (lw_at lw_m10 223 rfl) rfl
theorem q2488 : (Jvm.Cond.methodLink "BoxSpansLaw" (246 : Nat) ({ cls := "BoxSpansLaw", name := "account", desc := "(LBoxSpans;I[J)I" } : Jvm.MethodName)) ∈ lw_all := lw_g (lw_at lw_m10 228 rfl) rfl
theorem q2489 : (Jvm.Cond.static ({ cls := "BoxSpansLaw", name := "account", desc := "(LBoxSpans;I[J)I" } : Jvm.MethodName)) ∈ lw_all := lw_g (lw_at lw_m10 229 rfl) rfl
theorem q2490 : (Jvm.Cond.codeWith ({ cls := "BoxSpansLaw", name := "account", desc := "(LBoxSpans;I[J)I" } : Jvm.MethodName) method_32_code (4 : Nat) (Option.some Jvm.ClassFile.FieldType.int) [((0 : Nat), (9 : Nat), (12 : Nat), (13 : Nat))]) ∈ lw_all := lw_g (lw_at lw_m10 230 rfl) rfl
theorem q2491 : (Jvm.Cond.methodLink "BoxSpansLaw" (115 : Nat) ({ cls := "BoxSpans", name := "account", desc := "(I)I" } : Jvm.MethodName)) ∈ lw_all := lw_g (lw_at lw_m10 231 rfl) rfl
theorem q2507 : (Jvm.Cond.methodLink "BoxSpansLaw" (254 : Nat) ({ cls := "BoxSpansLaw", name := "meanLength", desc := "(LBoxSpans;[D)I" } : Jvm.MethodName)) ∈ lw_all := lw_g (lw_at lw_m11 7 rfl) rfl
theorem q2508 : (Jvm.Cond.static ({ cls := "BoxSpansLaw", name := "meanLength", desc := "(LBoxSpans;[D)I" } : Jvm.MethodName)) ∈ lw_all := lw_g (lw_at lw_m11 8 rfl) rfl
theorem q2509 : (Jvm.Cond.codeWith ({ cls := "BoxSpansLaw", name := "meanLength", desc := "(LBoxSpans;[D)I" } : Jvm.MethodName) method_33_code (3 : Nat) (Option.some Jvm.ClassFile.FieldType.int) [((0 : Nat), (7 : Nat), (10 : Nat), (122 : Nat))]) ∈ lw_all := lw_g (lw_at lw_m11 9 rfl) rfl
theorem q2510 : (Jvm.Cond.classLink "BoxSpansLaw" (122 : Nat) "java/lang/ArithmeticException") ∈ lw_all := lw_g (lw_at lw_m11 10 rfl) rfl
theorem q2524 : (Jvm.Cond.methodLink "BoxSpansLaw" (118 : Nat) ({ cls := "BoxSpans", name := "meanLength", desc := "()D" } : Jvm.MethodName)) ∈ lw_all := lw_g (lw_at lw_m11 24 rfl) rfl
theorem q2533 : (Jvm.Cond.methodLink "BoxSpansLaw" (258 : Nat) ({ cls := "BoxSpansLaw", name := "letShare", desc := "(LBoxSpans;I[D)I" } : Jvm.MethodName)) ∈ lw_all := lw_g (lw_at lw_m11 33 rfl) rfl
theorem q2534 : (Jvm.Cond.static ({ cls := "BoxSpansLaw", name := "letShare", desc := "(LBoxSpans;I[D)I" } : Jvm.MethodName)) ∈ lw_all := lw_g (lw_at lw_m11 34 rfl) rfl
theorem q2535 : (Jvm.Cond.codeWith ({ cls := "BoxSpansLaw", name := "letShare", desc := "(LBoxSpans;I[D)I" } : Jvm.MethodName) method_34_code (4 : Nat) (Option.some Jvm.ClassFile.FieldType.int) [((0 : Nat), (9 : Nat), (12 : Nat), (21 : Nat))]) ∈ lw_all := lw_g (lw_at lw_m11 35 rfl) rfl
theorem q2536 : (Jvm.Cond.methodLink "BoxSpansLaw" (124 : Nat) ({ cls := "BoxSpans", name := "letShare", desc := "(I)F" } : Jvm.MethodName)) ∈ lw_all := lw_g (lw_at lw_m11 36 rfl) rfl
theorem q2541 : (Jvm.Cond.methodLink "BoxSpansLaw" (262 : Nat) ({ cls := "BoxSpansLaw", name := "undo", desc := "(LBoxSpans;[J)I" } : Jvm.MethodName)) ∈ lw_all := lw_g (lw_at lw_m11 41 rfl) rfl
theorem q2542 : (Jvm.Cond.static ({ cls := "BoxSpansLaw", name := "undo", desc := "(LBoxSpans;[J)I" } : Jvm.MethodName)) ∈ lw_all := lw_g (lw_at lw_m11 42 rfl) rfl
theorem q2543 : (Jvm.Cond.codeWith ({ cls := "BoxSpansLaw", name := "undo", desc := "(LBoxSpans;[J)I" } : Jvm.MethodName) method_35_code (3 : Nat) (Option.some Jvm.ClassFile.FieldType.int) [((0 : Nat), (8 : Nat), (11 : Nat), (93 : Nat))]) ∈ lw_all := lw_g (lw_at lw_m11 43 rfl) rfl
theorem q2544 : (Jvm.Cond.methodLink "BoxSpansLaw" (128 : Nat) ({ cls := "BoxSpans", name := "undo", desc := "()I" } : Jvm.MethodName)) ∈ lw_all := lw_g (lw_at lw_m11 44 rfl) rfl
theorem q2560 : (Jvm.Cond.methodLink "BoxSpansLaw" (269 : Nat) ({ cls := "BoxSpansLaw", name := "restore", desc := "(LBoxSpans;[J)I" } : Jvm.MethodName)) ∈ lw_all := lw_g (lw_at lw_m11 60 rfl) rfl
theorem q2561 : (Jvm.Cond.static ({ cls := "BoxSpansLaw", name := "restore", desc := "(LBoxSpans;[J)I" } : Jvm.MethodName)) ∈ lw_all := lw_g (lw_at lw_m11 61 rfl) rfl
theorem q2562 : (Jvm.Cond.codeWith ({ cls := "BoxSpansLaw", name := "restore", desc := "(LBoxSpans;[J)I" } : Jvm.MethodName) method_36_code (3 : Nat) (Option.some Jvm.ClassFile.FieldType.int) [((0 : Nat), (8 : Nat), (11 : Nat), (93 : Nat))]) ∈ lw_all := lw_g (lw_at lw_m11 62 rfl) rfl
theorem q2563 : (Jvm.Cond.methodLink "BoxSpansLaw" (131 : Nat) ({ cls := "BoxSpans", name := "restore", desc := "()I" } : Jvm.MethodName)) ∈ lw_all := lw_g (lw_at lw_m11 63 rfl) rfl
theorem q2571 : (Jvm.Cond.classLink "BoxSpansLaw" (135 : Nat) "BoxSpansModel") ∈ lw_all := lw_g (lw_at lw_m11 71 rfl) rfl
theorem q2573 : (Jvm.Cond.methodLink "BoxSpansLaw" (137 : Nat) ({ cls := "BoxSpansModel", name := "<init>", desc := "()V" } : Jvm.MethodName)) ∈ lw_all := lw_g (lw_at lw_m11 73 rfl) rfl
theorem q2647 : (Jvm.Cond.methodLink "BoxSpansLaw" (144 : Nat) ({ cls := "BoxSpansModel", name := "thrown", desc := "()I" } : Jvm.MethodName)) ∈ lw_all := lw_g (lw_at lw_m11 147 rfl) rfl
theorem q2651 : (Jvm.Cond.methodLink "BoxSpansLaw" (143 : Nat) ({ cls := "BoxSpansModel", name := "box", desc := "(I)I" } : Jvm.MethodName)) ∈ lw_all := lw_g (lw_at lw_m11 151 rfl) rfl
theorem q2681 : (Jvm.Cond.methodLink "BoxSpansLaw" (150 : Nat) ({ cls := "BoxSpansModel", name := "let", desc := "(IIII)I" } : Jvm.MethodName)) ∈ lw_all := lw_g (lw_at lw_m11 181 rfl) rfl
theorem q2718 : (Jvm.Cond.methodLink "BoxSpansLaw" (153 : Nat) ({ cls := "BoxSpansModel", name := "cancel", desc := "(I)I" } : Jvm.MethodName)) ∈ lw_all := lw_g (lw_at lw_m11 218 rfl) rfl
theorem q2742 : (Jvm.Cond.methodLink "BoxSpansLaw" (157 : Nat) ({ cls := "BoxSpansModel", name := "move", desc := "(II)I" } : Jvm.MethodName)) ∈ lw_all := lw_g (lw_at lw_m12 2 rfl) rfl
theorem q2759 : (Jvm.Cond.methodLink "BoxSpansLaw" (160 : Nat) ({ cls := "BoxSpansModel", name := "split", desc := "(II)I" } : Jvm.MethodName)) ∈ lw_all := lw_g (lw_at lw_m12 19 rfl) rfl
theorem q2767 : (Jvm.Cond.methodLink "BoxSpansLaw" (163 : Nat) ({ cls := "BoxSpansModel", name := "join", desc := "(II)I" } : Jvm.MethodName)) ∈ lw_all := lw_g (lw_at lw_m12 27 rfl) rfl
theorem q2775 : (Jvm.Cond.methodLink "BoxSpansLaw" (166 : Nat) ({ cls := "BoxSpansModel", name := "lettingOf", desc := "(II)I" } : Jvm.MethodName)) ∈ lw_all := lw_g (lw_at lw_m12 35 rfl) rfl
theorem q2779 : (Jvm.Cond.methodLink "BoxSpansLaw" (169 : Nat) ({ cls := "BoxSpansModel", name := "at", desc := "(II)I" } : Jvm.MethodName)) ∈ lw_all := lw_g (lw_at lw_m12 39 rfl) rfl
theorem q2787 : (Jvm.Cond.methodLink "BoxSpansLaw" (173 : Nat) ({ cls := "BoxSpansModel", name := "wish", desc := "(III)I" } : Jvm.MethodName)) ∈ lw_all := lw_g (lw_at lw_m12 47 rfl) rfl
theorem q2798 : (Jvm.Cond.methodLink "BoxSpansLaw" (176 : Nat) ({ cls := "BoxSpansModel", name := "drop", desc := "(I)I" } : Jvm.MethodName)) ∈ lw_all := lw_g (lw_at lw_m12 58 rfl) rfl
theorem q2810 : (Jvm.Cond.methodLink "BoxSpansLaw" (179 : Nat) ({ cls := "BoxSpansModel", name := "wishOf", desc := "(II)I" } : Jvm.MethodName)) ∈ lw_all := lw_g (lw_at lw_m12 70 rfl) rfl
theorem q2818 : (Jvm.Cond.methodLink "BoxSpansLaw" (182 : Nat) ({ cls := "BoxSpansModel", name := "over", desc := "(I)I" } : Jvm.MethodName)) ∈ lw_all := lw_g (lw_at lw_m12 78 rfl) rfl
theorem q2826 : (Jvm.Cond.methodLink "BoxSpansLaw" (185 : Nat) ({ cls := "BoxSpansModel", name := "overAgain", desc := "(I)I" } : Jvm.MethodName)) ∈ lw_all := lw_g (lw_at lw_m12 86 rfl) rfl
theorem q2830 : (Jvm.Cond.methodLink "BoxSpansLaw" (189 : Nat) ({ cls := "BoxSpansModel", name := "busiest", desc := "()I" } : Jvm.MethodName)) ∈ lw_all := lw_g (lw_at lw_m12 90 rfl) rfl
theorem q2834 : (Jvm.Cond.methodLink "BoxSpansLaw" (193 : Nat) ({ cls := "BoxSpansModel", name := "needs", desc := "()I" } : Jvm.MethodName)) ∈ lw_all := lw_g (lw_at lw_m12 94 rfl) rfl
theorem q2838 : (Jvm.Cond.methodLink "BoxSpansLaw" (197 : Nat) ({ cls := "BoxSpansModel", name := "needsAgain", desc := "()I" } : Jvm.MethodName)) ∈ lw_all := lw_g (lw_at lw_m12 98 rfl) rfl
theorem q2842 : (Jvm.Cond.methodLink "BoxSpansLaw" (200 : Nat) ({ cls := "BoxSpansModel", name := "allot", desc := "()I" } : Jvm.MethodName)) ∈ lw_all := lw_g (lw_at lw_m12 102 rfl) rfl
theorem q2862 : (Jvm.Cond.methodLink "BoxSpansLaw" (203 : Nat) ({ cls := "BoxSpansModel", name := "boxOf", desc := "(II)I" } : Jvm.MethodName)) ∈ lw_all := lw_g (lw_at lw_m12 122 rfl) rfl
theorem q2894 : (Jvm.Cond.methodLink "BoxSpansLaw" (207 : Nat) ({ cls := "BoxSpansModel", name := "span", desc := "(IIZ)I" } : Jvm.MethodName)) ∈ lw_all := lw_g (lw_at lw_m12 154 rfl) rfl
theorem q2902 : (Jvm.Cond.methodLink "BoxSpansLaw" (210 : Nat) ({ cls := "BoxSpansModel", name := "gap", desc := "(IIZ)I" } : Jvm.MethodName)) ∈ lw_all := lw_g (lw_at lw_m12 162 rfl) rfl
theorem q2906 : (Jvm.Cond.methodLink "BoxSpansLaw" (213 : Nat) ({ cls := "BoxSpansModel", name := "fits", desc := "(II)I" } : Jvm.MethodName)) ∈ lw_all := lw_g (lw_at lw_m12 166 rfl) rfl
theorem q2910 : (Jvm.Cond.methodLink "BoxSpansLaw" (216 : Nat) ({ cls := "BoxSpansModel", name := "roomFor", desc := "(III)I" } : Jvm.MethodName)) ∈ lw_all := lw_g (lw_at lw_m12 170 rfl) rfl
theorem q2914 : (Jvm.Cond.methodLink "BoxSpansLaw" (219 : Nat) ({ cls := "BoxSpansModel", name := "hour", desc := "(II)I" } : Jvm.MethodName)) ∈ lw_all := lw_g (lw_at lw_m12 174 rfl) rfl
theorem q2921 : (Jvm.Cond.methodLink "BoxSpansLaw" (222 : Nat) ({ cls := "BoxSpansModel", name := "ranked", desc := "(I)I" } : Jvm.MethodName)) ∈ lw_all := lw_g (lw_at lw_m12 181 rfl) rfl
theorem q2929 : (Jvm.Cond.methodLink "BoxSpansLaw" (239 : Nat) ({ cls := "BoxSpansModel", name := "describe", desc := "(I)I" } : Jvm.MethodName)) ∈ lw_all := lw_g (lw_at lw_m12 189 rfl) rfl
theorem q2945 : (Jvm.Cond.methodLink "BoxSpansLaw" (242 : Nat) ({ cls := "BoxSpansModel", name := "show", desc := "(II)I" } : Jvm.MethodName)) ∈ lw_all := lw_g (lw_at lw_m12 205 rfl) rfl
theorem q2949 : (Jvm.Cond.methodLink "BoxSpansLaw" (245 : Nat) ({ cls := "BoxSpansModel", name := "written", desc := "(I)C" } : Jvm.MethodName)) ∈ lw_all := lw_g (lw_at lw_m12 209 rfl) rfl
theorem q2953 : (Jvm.Cond.methodLink "BoxSpansLaw" (248 : Nat) ({ cls := "BoxSpansModel", name := "account", desc := "(I)I" } : Jvm.MethodName)) ∈ lw_all := lw_g (lw_at lw_m12 213 rfl) rfl
theorem q2969 : (Jvm.Cond.methodLink "BoxSpansLaw" (253 : Nat) ({ cls := "BoxSpansModel", name := "isOnce", desc := "()Z" } : Jvm.MethodName)) ∈ lw_all := lw_g (lw_at lw_m12 229 rfl) rfl
theorem q2973 : (Jvm.Cond.methodLink "BoxSpansLaw" (257 : Nat) ({ cls := "BoxSpansModel", name := "meanLength", desc := "()D" } : Jvm.MethodName)) ∈ lw_all := lw_g (lw_at lw_m12 233 rfl) rfl
theorem q2977 : (Jvm.Cond.methodLink "BoxSpansLaw" (261 : Nat) ({ cls := "BoxSpansModel", name := "letShare", desc := "(I)F" } : Jvm.MethodName)) ∈ lw_all := lw_g (lw_at lw_m12 237 rfl) rfl
theorem q2982 : (Jvm.Cond.methodLink "BoxSpansLaw" (226 : Nat) ({ cls := "BoxSpansModel", name := "type", desc := "(C)I" } : Jvm.MethodName)) ∈ lw_all := lw_g (lw_at lw_m13 2 rfl) rfl
theorem q2986 : (Jvm.Cond.methodLink "BoxSpansLaw" (229 : Nat) ({ cls := "BoxSpansModel", name := "read", desc := "()I" } : Jvm.MethodName)) ∈ lw_all := lw_g (lw_at lw_m13 6 rfl) rfl
theorem q3046 : (Jvm.Cond.methodLink "BoxSpansLaw" (232 : Nat) ({ cls := "BoxSpansModel", name := "errorPosition", desc := "()I" } : Jvm.MethodName)) ∈ lw_all := lw_g (lw_at lw_m13 66 rfl) rfl
theorem q3050 : (Jvm.Cond.methodLink "BoxSpansLaw" (236 : Nat) ({ cls := "BoxSpansModel", name := "refusal", desc := "(ZZ)I" } : Jvm.MethodName)) ∈ lw_all := lw_g (lw_at lw_m13 70 rfl) rfl
theorem q3054 : (Jvm.Cond.methodLink "BoxSpansLaw" (264 : Nat) ({ cls := "BoxSpansModel", name := "undo", desc := "()I" } : Jvm.MethodName)) ∈ lw_all := lw_g (lw_at lw_m13 74 rfl) rfl
theorem q3058 : (Jvm.Cond.methodLink "BoxSpansLaw" (268 : Nat) ({ cls := "BoxSpansModel", name := "save", desc := "()I" } : Jvm.MethodName)) ∈ lw_all := lw_g (lw_at lw_m13 78 rfl) rfl
theorem q3062 : (Jvm.Cond.methodLink "BoxSpansLaw" (271 : Nat) ({ cls := "BoxSpansModel", name := "restore", desc := "()I" } : Jvm.MethodName)) ∈ lw_all := lw_g (lw_at lw_m13 82 rfl) rfl
/-! the law's own entry -/
set_option maxRecDepth 100000
abbrev cL_law : ByteArray := code
def dkwL_law_99 : List UInt8 := [167, 246, 128, 4, 172]
abbrev dktL_law_99 : List UInt8 := dkwL_law_99 ++ []
def dkwL_law_98 : List UInt8 := [172, 21, 6, 154, 0, 15, 45, 3, 47, 21, 7, 133, 148, 153, 0, 5, 3, 172, 167, 0, 3, 132, 5, 5]
abbrev dktL_law_98 : List UInt8 := dkwL_law_98 ++ dktL_law_99
def dkwL_law_97 : List UInt8 := [172, 43, 45, 184, 1, 13, 54, 6, 44, 182, 1, 15, 54, 7, 44, 182, 0, 144, 21, 6, 159, 0, 5, 3]
abbrev dktL_law_97 : List UInt8 := dkwL_law_97 ++ dktL_law_98
def dkwL_law_96 : List UInt8 := [21, 7, 133, 148, 153, 0, 5, 3, 172, 167, 0, 60, 43, 182, 1, 9, 44, 182, 1, 12, 159, 0, 49, 3]
abbrev dktL_law_96 : List UInt8 := dkwL_law_96 ++ dktL_law_97
def dkwL_law_95 : List UInt8 := [182, 1, 8, 54, 7, 44, 182, 0, 144, 21, 6, 159, 0, 5, 3, 172, 21, 6, 154, 0, 15, 45, 3, 47]
abbrev dktL_law_95 : List UInt8 := dkwL_law_95 ++ dktL_law_96
def dkwL_law_94 : List UInt8 := [153, 0, 11, 23, 7, 23, 7, 149, 154, 0, 5, 3, 172, 167, 0, 104, 43, 45, 184, 1, 6, 54, 6, 44]
abbrev dktL_law_94 : List UInt8 := dkwL_law_94 ++ dktL_law_95
def dkwL_law_93 : List UInt8 := [154, 0, 36, 25, 4, 3, 49, 23, 7, 141, 151, 153, 0, 25, 25, 4, 3, 49, 25, 4, 3, 49, 151]
abbrev dktL_law_93 : List UInt8 := dkwL_law_93 ++ dktL_law_94
def dkwL_law_92 : List UInt8 := [42, 21, 5, 4, 96, 46, 182, 1, 5, 56, 7, 44, 182, 0, 144, 21, 6, 159, 0, 5, 3, 172, 21, 6]
abbrev dktL_law_92 : List UInt8 := dkwL_law_92 ++ dktL_law_93
def dkwL_law_91 : List UInt8 := [151, 154, 0, 5, 3, 172, 167, 0, 182, 43, 42, 21, 5, 4, 96, 46, 25, 4, 184, 1, 2, 54, 6, 44]
abbrev dktL_law_91 : List UInt8 := dkwL_law_91 ++ dktL_law_92
def dkwL_law_90 : List UInt8 := [3, 49, 24, 7, 151, 153, 0, 25, 25, 4, 3, 49, 25, 4, 3, 49, 151, 153, 0, 11, 24, 7, 24, 7]
abbrev dktL_law_90 : List UInt8 := dkwL_law_90 ++ dktL_law_91
def dkwL_law_89 : List UInt8 := [44, 182, 1, 1, 57, 7, 44, 182, 0, 144, 21, 6, 159, 0, 5, 3, 172, 21, 6, 154, 0, 35, 25, 4]
abbrev dktL_law_89 : List UInt8 := dkwL_law_89 ++ dktL_law_90
def dkwL_law_88 : List UInt8 := [167, 1, 4, 43, 182, 0, 249, 44, 182, 0, 253, 159, 0, 249, 3, 172, 43, 25, 4, 184, 0, 254, 54, 6]
abbrev dktL_law_88 : List UInt8 := dkwL_law_88 ++ dktL_law_89
def dkwL_law_87 : List UInt8 := [21, 6, 159, 0, 5, 3, 172, 21, 6, 154, 0, 15, 45, 3, 47, 21, 7, 133, 148, 153, 0, 5, 3, 172]
abbrev dktL_law_87 : List UInt8 := dkwL_law_87 ++ dktL_law_88
def dkwL_law_86 : List UInt8 := [46, 45, 184, 0, 246, 54, 6, 44, 42, 21, 5, 4, 96, 46, 182, 0, 248, 54, 7, 44, 182, 0, 144]
abbrev dktL_law_86 : List UInt8 := dkwL_law_86 ++ dktL_law_87
def dkwL_law_85 : List UInt8 := [154, 0, 15, 45, 3, 47, 21, 7, 133, 148, 153, 0, 5, 3, 172, 167, 1, 60, 43, 42, 21, 5, 4, 96]
abbrev dktL_law_85 : List UInt8 := dkwL_law_85 ++ dktL_law_86
def dkwL_law_84 : List UInt8 := [21, 5, 4, 96, 46, 182, 0, 245, 54, 7, 44, 182, 0, 144, 21, 6, 159, 0, 5, 3, 172, 21, 6]
abbrev dktL_law_84 : List UInt8 := dkwL_law_84 ++ dktL_law_85
def dkwL_law_83 : List UInt8 := [153, 0, 5, 3, 172, 167, 1, 116, 43, 42, 21, 5, 4, 96, 46, 45, 184, 0, 243, 54, 6, 44, 42]
abbrev dktL_law_83 : List UInt8 := dkwL_law_83 ++ dktL_law_84
def dkwL_law_82 : List UInt8 := [182, 0, 144, 21, 6, 159, 0, 5, 3, 172, 21, 6, 154, 0, 15, 45, 3, 47, 21, 7, 133, 148]
abbrev dktL_law_82 : List UInt8 := dkwL_law_82 ++ dktL_law_83
def dkwL_law_81 : List UInt8 := [184, 0, 240, 54, 6, 44, 42, 21, 5, 4, 96, 46, 42, 21, 5, 5, 96, 46, 182, 0, 242, 54, 7, 44]
abbrev dktL_law_81 : List UInt8 := dkwL_law_81 ++ dktL_law_82
def dkwL_law_80 : List UInt8 := [153, 0, 5, 3, 172, 167, 1, 184, 43, 42, 21, 5, 4, 96, 46, 42, 21, 5, 5, 96, 46, 45]
abbrev dktL_law_80 : List UInt8 := dkwL_law_80 ++ dktL_law_81
def dkwL_law_79 : List UInt8 := [182, 0, 144, 21, 6, 159, 0, 5, 3, 172, 21, 6, 154, 0, 15, 45, 3, 47, 21, 7, 133, 148]
abbrev dktL_law_79 : List UInt8 := dkwL_law_79 ++ dktL_law_80
def dkwL_law_78 : List UInt8 := [21, 5, 4, 96, 46, 45, 184, 0, 237, 54, 6, 44, 42, 21, 5, 4, 96, 46, 182, 0, 239, 54, 7, 44]
abbrev dktL_law_78 : List UInt8 := dkwL_law_78 ++ dktL_law_79
def dkwL_law_77 : List UInt8 := [3, 172, 21, 6, 154, 0, 15, 45, 3, 47, 21, 7, 133, 148, 153, 0, 5, 3, 172, 167, 1, 240, 43, 42]
abbrev dktL_law_77 : List UInt8 := dkwL_law_77 ++ dktL_law_78
def dkwL_law_76 : List UInt8 := [96, 46, 153, 0, 7, 4, 167, 0, 4, 3, 182, 0, 236, 54, 7, 44, 182, 0, 144, 21, 6, 159, 0, 5]
abbrev dktL_law_76 : List UInt8 := dkwL_law_76 ++ dktL_law_77
def dkwL_law_75 : List UInt8 := [184, 0, 233, 54, 6, 44, 42, 21, 5, 4, 96, 46, 153, 0, 7, 4, 167, 0, 4, 3, 42, 21, 5, 5]
abbrev dktL_law_75 : List UInt8 := dkwL_law_75 ++ dktL_law_76
def dkwL_law_74 : List UInt8 := [153, 0, 7, 4, 167, 0, 4, 3, 42, 21, 5, 5, 96, 46, 153, 0, 7, 4, 167, 0, 4, 3, 45]
abbrev dktL_law_74 : List UInt8 := dkwL_law_74 ++ dktL_law_75
def dkwL_law_73 : List UInt8 := [45, 3, 47, 21, 7, 133, 148, 153, 0, 5, 3, 172, 167, 2, 84, 43, 42, 21, 5, 4, 96, 46]
abbrev dktL_law_73 : List UInt8 := dkwL_law_73 ++ dktL_law_74
def dkwL_law_72 : List UInt8 := [54, 6, 44, 182, 0, 232, 54, 7, 44, 182, 0, 144, 21, 6, 159, 0, 5, 3, 172, 21, 6, 154, 0, 15]
abbrev dktL_law_72 : List UInt8 := dkwL_law_72 ++ dktL_law_73
def dkwL_law_71 : List UInt8 := [154, 0, 15, 45, 3, 47, 21, 7, 133, 148, 153, 0, 5, 3, 172, 167, 2, 128, 43, 45, 184, 0, 230]
abbrev dktL_law_71 : List UInt8 := dkwL_law_71 ++ dktL_law_72
def dkwL_law_70 : List UInt8 := [184, 0, 227, 54, 6, 44, 182, 0, 229, 54, 7, 44, 182, 0, 144, 21, 6, 159, 0, 5, 3, 172, 21, 6]
abbrev dktL_law_70 : List UInt8 := dkwL_law_70 ++ dktL_law_71
def dkwL_law_69 : List UInt8 := [3, 172, 21, 6, 154, 0, 15, 45, 3, 47, 21, 7, 133, 148, 153, 0, 5, 3, 172, 167, 2, 172, 43, 45]
abbrev dktL_law_69 : List UInt8 := dkwL_law_69 ++ dktL_law_70
def dkwL_law_68 : List UInt8 := [54, 6, 44, 42, 21, 5, 4, 96, 46, 146, 182, 0, 226, 54, 7, 44, 182, 0, 144, 21, 6, 159, 0, 5]
abbrev dktL_law_68 : List UInt8 := dkwL_law_68 ++ dktL_law_69
def dkwL_law_67 : List UInt8 := [21, 7, 133, 148, 153, 0, 5, 3, 172, 167, 2, 230, 43, 42, 21, 5, 4, 96, 46, 146, 45, 184, 0, 223]
abbrev dktL_law_67 : List UInt8 := dkwL_law_67 ++ dktL_law_68
def dkwL_law_66 : List UInt8 := [182, 0, 222, 54, 7, 44, 182, 0, 144, 21, 6, 159, 0, 5, 3, 172, 21, 6, 154, 0, 15, 45, 3, 47]
abbrev dktL_law_66 : List UInt8 := dkwL_law_66 ++ dktL_law_67
def dkwL_law_65 : List UInt8 := [167, 3, 30, 43, 42, 21, 5, 4, 96, 46, 45, 184, 0, 220, 54, 6, 44, 42, 21, 5, 4, 96, 46]
abbrev dktL_law_65 : List UInt8 := dkwL_law_65 ++ dktL_law_66
def dkwL_law_64 : List UInt8 := [159, 0, 5, 3, 172, 21, 6, 154, 0, 15, 45, 3, 47, 21, 7, 133, 148, 153, 0, 5, 3, 172]
abbrev dktL_law_64 : List UInt8 := dkwL_law_64 ++ dktL_law_65
def dkwL_law_63 : List UInt8 := [21, 5, 4, 96, 46, 42, 21, 5, 5, 96, 46, 182, 0, 219, 54, 7, 44, 182, 0, 144, 21, 6]
abbrev dktL_law_63 : List UInt8 := dkwL_law_63 ++ dktL_law_64
def dkwL_law_62 : List UInt8 := [167, 3, 98, 43, 42, 21, 5, 4, 96, 46, 42, 21, 5, 5, 96, 46, 45, 184, 0, 217, 54, 6, 44, 42]
abbrev dktL_law_62 : List UInt8 := dkwL_law_62 ++ dktL_law_63
def dkwL_law_61 : List UInt8 := [21, 6, 159, 0, 5, 3, 172, 21, 6, 154, 0, 15, 45, 3, 47, 21, 7, 133, 148, 153, 0, 5, 3, 172]
abbrev dktL_law_61 : List UInt8 := dkwL_law_61 ++ dktL_law_62
def dkwL_law_60 : List UInt8 := [96, 46, 42, 21, 5, 5, 96, 46, 42, 21, 5, 6, 96, 46, 182, 0, 216, 54, 7, 44, 182, 0, 144]
abbrev dktL_law_60 : List UInt8 := dkwL_law_60 ++ dktL_law_61
def dkwL_law_59 : List UInt8 := [46, 42, 21, 5, 5, 96, 46, 42, 21, 5, 6, 96, 46, 45, 184, 0, 214, 54, 6, 44, 42, 21, 5, 4]
abbrev dktL_law_59 : List UInt8 := dkwL_law_59 ++ dktL_law_60
def dkwL_law_58 : List UInt8 := [154, 0, 15, 45, 3, 47, 21, 7, 133, 148, 153, 0, 5, 3, 172, 167, 3, 178, 43, 42, 21, 5, 4, 96]
abbrev dktL_law_58 : List UInt8 := dkwL_law_58 ++ dktL_law_59
def dkwL_law_57 : List UInt8 := [21, 5, 5, 96, 46, 182, 0, 213, 54, 7, 44, 182, 0, 144, 21, 6, 159, 0, 5, 3, 172, 21, 6]
abbrev dktL_law_57 : List UInt8 := dkwL_law_57 ++ dktL_law_58
def dkwL_law_56 : List UInt8 := [4, 96, 46, 42, 21, 5, 5, 96, 46, 45, 184, 0, 211, 54, 6, 44, 42, 21, 5, 4, 96, 46, 42]
abbrev dktL_law_56 : List UInt8 := dkwL_law_56 ++ dktL_law_57
def dkwL_law_55 : List UInt8 := [21, 6, 154, 0, 15, 45, 3, 47, 21, 7, 133, 148, 153, 0, 5, 3, 172, 167, 3, 246, 43, 42, 21, 5]
abbrev dktL_law_55 : List UInt8 := dkwL_law_55 ++ dktL_law_56
def dkwL_law_54 : List UInt8 := [153, 0, 7, 4, 167, 0, 4, 3, 182, 0, 210, 54, 7, 44, 182, 0, 144, 21, 6, 159, 0, 5, 3, 172]
abbrev dktL_law_54 : List UInt8 := dkwL_law_54 ++ dktL_law_55
def dkwL_law_53 : List UInt8 := [184, 0, 208, 54, 6, 44, 42, 21, 5, 4, 96, 46, 42, 21, 5, 5, 96, 46, 42, 21, 5, 6, 96, 46]
abbrev dktL_law_53 : List UInt8 := dkwL_law_53 ++ dktL_law_54
def dkwL_law_52 : List UInt8 := [46, 42, 21, 5, 5, 96, 46, 42, 21, 5, 6, 96, 46, 153, 0, 7, 4, 167, 0, 4, 3, 45]
abbrev dktL_law_52 : List UInt8 := dkwL_law_52 ++ dktL_law_53
def dkwL_law_51 : List UInt8 := [154, 0, 15, 45, 3, 47, 21, 7, 133, 148, 153, 0, 5, 3, 172, 167, 4, 86, 43, 42, 21, 5, 4, 96]
abbrev dktL_law_51 : List UInt8 := dkwL_law_51 ++ dktL_law_52
def dkwL_law_50 : List UInt8 := [167, 0, 4, 3, 182, 0, 207, 54, 7, 44, 182, 0, 144, 21, 6, 159, 0, 5, 3, 172, 21, 6]
abbrev dktL_law_50 : List UInt8 := dkwL_law_50 ++ dktL_law_51
def dkwL_law_49 : List UInt8 := [42, 21, 5, 4, 96, 46, 42, 21, 5, 5, 96, 46, 42, 21, 5, 6, 96, 46, 153, 0, 7, 4]
abbrev dktL_law_49 : List UInt8 := dkwL_law_49 ++ dktL_law_50
def dkwL_law_48 : List UInt8 := [5, 96, 46, 42, 21, 5, 6, 96, 46, 153, 0, 7, 4, 167, 0, 4, 3, 45, 184, 0, 204, 54, 6, 44]
abbrev dktL_law_48 : List UInt8 := dkwL_law_48 ++ dktL_law_49
def dkwL_law_47 : List UInt8 := [3, 47, 21, 7, 133, 148, 153, 0, 5, 3, 172, 167, 4, 182, 43, 42, 21, 5, 4, 96, 46, 42, 21, 5]
abbrev dktL_law_47 : List UInt8 := dkwL_law_47 ++ dktL_law_48
def dkwL_law_46 : List UInt8 := [96, 46, 182, 0, 203, 54, 7, 44, 182, 0, 144, 21, 6, 159, 0, 5, 3, 172, 21, 6, 154, 0, 15, 45]
abbrev dktL_law_46 : List UInt8 := dkwL_law_46 ++ dktL_law_47
def dkwL_law_45 : List UInt8 := [46, 42, 21, 5, 5, 96, 46, 45, 184, 0, 201, 54, 6, 44, 42, 21, 5, 4, 96, 46, 42, 21, 5, 5]
abbrev dktL_law_45 : List UInt8 := dkwL_law_45 ++ dktL_law_46
def dkwL_law_44 : List UInt8 := [154, 0, 15, 45, 3, 47, 21, 7, 133, 148, 153, 0, 5, 3, 172, 167, 4, 250, 43, 42, 21, 5, 4, 96]
abbrev dktL_law_44 : List UInt8 := dkwL_law_44 ++ dktL_law_45
def dkwL_law_43 : List UInt8 := [184, 0, 198, 54, 6, 44, 182, 0, 200, 54, 7, 44, 182, 0, 144, 21, 6, 159, 0, 5, 3, 172, 21, 6]
abbrev dktL_law_43 : List UInt8 := dkwL_law_43 ++ dktL_law_44
def dkwL_law_42 : List UInt8 := [182, 0, 193, 159, 5, 53, 3, 172, 43, 182, 0, 194, 44, 182, 0, 197, 159, 5, 40, 3, 172, 43, 45]
abbrev dktL_law_42 : List UInt8 := dkwL_law_42 ++ dktL_law_43
def dkwL_law_41 : List UInt8 := [154, 0, 15, 45, 3, 47, 21, 7, 133, 148, 153, 0, 5, 3, 172, 167, 5, 64, 43, 182, 0, 190, 44]
abbrev dktL_law_41 : List UInt8 := dkwL_law_41 ++ dktL_law_42
def dkwL_law_40 : List UInt8 := [184, 0, 186, 54, 6, 44, 182, 0, 189, 54, 7, 44, 182, 0, 144, 21, 6, 159, 0, 5, 3, 172, 21, 6]
abbrev dktL_law_40 : List UInt8 := dkwL_law_40 ++ dktL_law_41
def dkwL_law_39 : List UInt8 := [172, 21, 6, 154, 0, 15, 45, 3, 47, 21, 7, 133, 148, 153, 0, 5, 3, 172, 167, 5, 108, 43, 45]
abbrev dktL_law_39 : List UInt8 := dkwL_law_39 ++ dktL_law_40
def dkwL_law_38 : List UInt8 := [54, 6, 44, 42, 21, 5, 4, 96, 46, 182, 0, 185, 54, 7, 44, 182, 0, 144, 21, 6, 159, 0, 5, 3]
abbrev dktL_law_38 : List UInt8 := dkwL_law_38 ++ dktL_law_39
def dkwL_law_37 : List UInt8 := [21, 7, 133, 148, 153, 0, 5, 3, 172, 167, 5, 164, 43, 42, 21, 5, 4, 96, 46, 45, 184, 0, 183]
abbrev dktL_law_37 : List UInt8 := dkwL_law_37 ++ dktL_law_38
def dkwL_law_36 : List UInt8 := [182, 0, 182, 54, 7, 44, 182, 0, 144, 21, 6, 159, 0, 5, 3, 172, 21, 6, 154, 0, 15, 45, 3, 47]
abbrev dktL_law_36 : List UInt8 := dkwL_law_36 ++ dktL_law_37
def dkwL_law_35 : List UInt8 := [167, 5, 220, 43, 42, 21, 5, 4, 96, 46, 45, 184, 0, 180, 54, 6, 44, 42, 21, 5, 4, 96, 46]
abbrev dktL_law_35 : List UInt8 := dkwL_law_35 ++ dktL_law_36
def dkwL_law_34 : List UInt8 := [159, 0, 5, 3, 172, 21, 6, 154, 0, 15, 45, 3, 47, 21, 7, 133, 148, 153, 0, 5, 3, 172]
abbrev dktL_law_34 : List UInt8 := dkwL_law_34 ++ dktL_law_35
def dkwL_law_33 : List UInt8 := [21, 5, 4, 96, 46, 42, 21, 5, 5, 96, 46, 182, 0, 179, 54, 7, 44, 182, 0, 144, 21, 6]
abbrev dktL_law_33 : List UInt8 := dkwL_law_33 ++ dktL_law_34
def dkwL_law_32 : List UInt8 := [167, 6, 32, 43, 42, 21, 5, 4, 96, 46, 42, 21, 5, 5, 96, 46, 45, 184, 0, 177, 54, 6, 44, 42]
abbrev dktL_law_32 : List UInt8 := dkwL_law_32 ++ dktL_law_33
def dkwL_law_31 : List UInt8 := [21, 6, 159, 0, 5, 3, 172, 21, 6, 154, 0, 15, 45, 3, 47, 21, 7, 133, 148, 153, 0, 5, 3, 172]
abbrev dktL_law_31 : List UInt8 := dkwL_law_31 ++ dktL_law_32
def dkwL_law_30 : List UInt8 := [46, 45, 184, 0, 174, 54, 6, 44, 42, 21, 5, 4, 96, 46, 182, 0, 176, 54, 7, 44, 182, 0, 144]
abbrev dktL_law_30 : List UInt8 := dkwL_law_30 ++ dktL_law_31
def dkwL_law_29 : List UInt8 := [154, 0, 15, 45, 3, 47, 21, 7, 133, 148, 153, 0, 5, 3, 172, 167, 6, 88, 43, 42, 21, 5, 4, 96]
abbrev dktL_law_29 : List UInt8 := dkwL_law_29 ++ dktL_law_30
def dkwL_law_28 : List UInt8 := [21, 5, 6, 96, 46, 182, 0, 173, 54, 7, 44, 182, 0, 144, 21, 6, 159, 0, 5, 3, 172, 21, 6]
abbrev dktL_law_28 : List UInt8 := dkwL_law_28 ++ dktL_law_29
def dkwL_law_27 : List UInt8 := [6, 96, 46, 45, 184, 0, 170, 54, 6, 44, 42, 21, 5, 4, 96, 46, 42, 21, 5, 5, 96, 46, 42]
abbrev dktL_law_27 : List UInt8 := dkwL_law_27 ++ dktL_law_28
def dkwL_law_26 : List UInt8 := [153, 0, 5, 3, 172, 167, 6, 168, 43, 42, 21, 5, 4, 96, 46, 42, 21, 5, 5, 96, 46, 42, 21, 5]
abbrev dktL_law_26 : List UInt8 := dkwL_law_26 ++ dktL_law_27
def dkwL_law_25 : List UInt8 := [182, 0, 144, 21, 6, 159, 0, 5, 3, 172, 21, 6, 154, 0, 15, 45, 3, 47, 21, 7, 133, 148]
abbrev dktL_law_25 : List UInt8 := dkwL_law_25 ++ dktL_law_26
def dkwL_law_24 : List UInt8 := [184, 0, 167, 54, 6, 44, 42, 21, 5, 4, 96, 46, 42, 21, 5, 5, 96, 46, 182, 0, 169, 54, 7, 44]
abbrev dktL_law_24 : List UInt8 := dkwL_law_24 ++ dktL_law_25
def dkwL_law_23 : List UInt8 := [153, 0, 5, 3, 172, 167, 6, 236, 43, 42, 21, 5, 4, 96, 46, 42, 21, 5, 5, 96, 46, 45]
abbrev dktL_law_23 : List UInt8 := dkwL_law_23 ++ dktL_law_24
def dkwL_law_22 : List UInt8 := [182, 0, 144, 21, 6, 159, 0, 5, 3, 172, 21, 6, 154, 0, 15, 45, 3, 47, 21, 7, 133, 148]
abbrev dktL_law_22 : List UInt8 := dkwL_law_22 ++ dktL_law_23
def dkwL_law_21 : List UInt8 := [184, 0, 164, 54, 6, 44, 42, 21, 5, 4, 96, 46, 42, 21, 5, 5, 96, 46, 182, 0, 166, 54, 7, 44]
abbrev dktL_law_21 : List UInt8 := dkwL_law_21 ++ dktL_law_22
def dkwL_law_20 : List UInt8 := [148, 153, 0, 5, 3, 172, 167, 7, 48, 43, 42, 21, 5, 4, 96, 46, 42, 21, 5, 5, 96, 46, 45]
abbrev dktL_law_20 : List UInt8 := dkwL_law_20 ++ dktL_law_21
def dkwL_law_19 : List UInt8 := [54, 7, 44, 182, 0, 144, 21, 6, 159, 0, 5, 3, 172, 21, 6, 154, 0, 15, 45, 3, 47, 21, 7, 133]
abbrev dktL_law_19 : List UInt8 := dkwL_law_19 ++ dktL_law_20
def dkwL_law_18 : List UInt8 := [46, 45, 184, 0, 161, 54, 6, 44, 42, 21, 5, 4, 96, 46, 42, 21, 5, 5, 96, 46, 182, 0, 163]
abbrev dktL_law_18 : List UInt8 := dkwL_law_18 ++ dktL_law_19
def dkwL_law_17 : List UInt8 := [21, 7, 133, 148, 153, 0, 5, 3, 172, 167, 7, 116, 43, 42, 21, 5, 4, 96, 46, 42, 21, 5, 5, 96]
abbrev dktL_law_17 : List UInt8 := dkwL_law_17 ++ dktL_law_18
def dkwL_law_16 : List UInt8 := [182, 0, 160, 54, 7, 44, 182, 0, 144, 21, 6, 159, 0, 5, 3, 172, 21, 6, 154, 0, 15, 45, 3, 47]
abbrev dktL_law_16 : List UInt8 := dkwL_law_16 ++ dktL_law_17
def dkwL_law_15 : List UInt8 := [5, 96, 46, 45, 184, 0, 158, 54, 6, 44, 42, 21, 5, 4, 96, 46, 42, 21, 5, 5, 96, 46]
abbrev dktL_law_15 : List UInt8 := dkwL_law_15 ++ dktL_law_16
def dkwL_law_14 : List UInt8 := [3, 47, 21, 7, 133, 148, 153, 0, 5, 3, 172, 167, 7, 184, 43, 42, 21, 5, 4, 96, 46, 42, 21, 5]
abbrev dktL_law_14 : List UInt8 := dkwL_law_14 ++ dktL_law_15
def dkwL_law_13 : List UInt8 := [96, 46, 182, 0, 157, 54, 7, 44, 182, 0, 144, 21, 6, 159, 0, 5, 3, 172, 21, 6, 154, 0, 15, 45]
abbrev dktL_law_13 : List UInt8 := dkwL_law_13 ++ dktL_law_14
def dkwL_law_12 : List UInt8 := [46, 42, 21, 5, 5, 96, 46, 45, 184, 0, 154, 54, 6, 44, 42, 21, 5, 4, 96, 46, 42, 21, 5, 5]
abbrev dktL_law_12 : List UInt8 := dkwL_law_12 ++ dktL_law_13
def dkwL_law_11 : List UInt8 := [154, 0, 15, 45, 3, 47, 21, 7, 133, 148, 153, 0, 5, 3, 172, 167, 7, 252, 43, 42, 21, 5, 4, 96]
abbrev dktL_law_11 : List UInt8 := dkwL_law_11 ++ dktL_law_12
def dkwL_law_10 : List UInt8 := [21, 5, 4, 96, 46, 182, 0, 153, 54, 7, 44, 182, 0, 144, 21, 6, 159, 0, 5, 3, 172, 21, 6]
abbrev dktL_law_10 : List UInt8 := dkwL_law_10 ++ dktL_law_11
def dkwL_law_9 : List UInt8 := [153, 0, 5, 3, 172, 167, 8, 52, 43, 42, 21, 5, 4, 96, 46, 45, 184, 0, 151, 54, 6, 44, 42]
abbrev dktL_law_9 : List UInt8 := dkwL_law_9 ++ dktL_law_10
def dkwL_law_8 : List UInt8 := [182, 0, 144, 21, 6, 159, 0, 5, 3, 172, 21, 6, 154, 0, 15, 45, 3, 47, 21, 7, 133, 148]
abbrev dktL_law_8 : List UInt8 := dkwL_law_8 ++ dktL_law_9
def dkwL_law_7 : List UInt8 := [42, 21, 5, 5, 96, 46, 42, 21, 5, 6, 96, 46, 42, 21, 5, 7, 96, 46, 182, 0, 150, 54, 7, 44]
abbrev dktL_law_7 : List UInt8 := dkwL_law_7 ++ dktL_law_8
def dkwL_law_6 : List UInt8 := [21, 5, 6, 96, 46, 42, 21, 5, 7, 96, 46, 45, 184, 0, 147, 54, 6, 44, 42, 21, 5, 4, 96, 46]
abbrev dktL_law_6 : List UInt8 := dkwL_law_6 ++ dktL_law_7
def dkwL_law_5 : List UInt8 := [148, 153, 0, 5, 3, 172, 167, 8, 144, 43, 42, 21, 5, 4, 96, 46, 42, 21, 5, 5, 96, 46, 42]
abbrev dktL_law_5 : List UInt8 := dkwL_law_5 ++ dktL_law_6
def dkwL_law_4 : List UInt8 := [54, 7, 44, 182, 0, 144, 21, 6, 159, 0, 5, 3, 172, 21, 6, 154, 0, 15, 45, 3, 47, 21, 7, 133]
abbrev dktL_law_4 : List UInt8 := dkwL_law_4 ++ dktL_law_5
def dkwL_law_3 : List UInt8 := [43, 42, 21, 5, 4, 96, 46, 45, 184, 0, 138, 54, 6, 44, 42, 21, 5, 4, 96, 46, 182, 0, 143]
abbrev dktL_law_3 : List UInt8 := dkwL_law_3 ++ dktL_law_4
def dkwL_law_2 : List UInt8 := [170, 0, 0, 0, 0, 0, 9, 109, 0, 0, 0, 0, 0, 0, 0, 37, 0, 0, 0, 168, 0, 0, 0, 224, 0, 0, 1, 60, 0, 0, 1, 116, 0, 0, 1, 184, 0, 0, 1, 252, 0, 0, 2, 64, 0, 0, 2, 132, 0, 0, 2, 200, 0, 0, 3, 24, 0, 0, 3, 80, 0, 0, 3, 148, 0, 0, 3, 204, 0, 0, 4, 4, 0, 0, 4, 48, 0, 0, 4, 61, 0, 0, 4, 74, 0, 0, 4, 118, 0, 0, 4, 186, 0, 0, 5, 26, 0, 0, 5, 122, 0, 0, 5, 190, 0, 0, 6, 14, 0, 0, 6, 82, 0, 0, 6, 138, 0, 0, 6, 196, 0, 0, 6, 240, 0, 0, 7, 28, 0, 0, 7, 128, 0, 0, 7, 184, 0, 0, 7, 252, 0, 0, 8, 52, 0, 0, 8, 108, 0, 0, 8, 121, 0, 0, 8, 186, 0, 0, 9, 8, 0, 0, 9, 52, 0, 0, 9, 65]
abbrev dktL_law_2 : List UInt8 := dkwL_law_2 ++ dktL_law_3
def dkwL_law_1 : List UInt8 := [58, 4, 3, 54, 5, 21, 5, 42, 190, 8, 100, 163, 9, 125, 42, 21, 5, 46, 16, 63, 126]
abbrev dktL_law_1 : List UInt8 := dkwL_law_1 ++ dktL_law_2
def dkwL_law_0 : List UInt8 := [187, 0, 8, 89, 183, 0, 134, 76, 187, 0, 135, 89, 183, 0, 137, 77, 4, 188, 11, 78, 4, 188, 7]
abbrev dktL_law_0 : List UInt8 := dkwL_law_0 ++ dktL_law_1
theorem dksL_law_0 : cL_law.data.toList.drop 0 = dktL_law_0 := by decide +kernel
theorem dksL_law_1 : cL_law.data.toList.drop 23 = dktL_law_1 := dk_seg dksL_law_0 23 rfl rfl
theorem dksL_law_2 : cL_law.data.toList.drop 44 = dktL_law_2 := dk_seg dksL_law_1 21 rfl rfl
theorem dksL_law_3 : cL_law.data.toList.drop 212 = dktL_law_3 := dk_seg dksL_law_2 168 rfl rfl
theorem dksL_law_4 : cL_law.data.toList.drop 235 = dktL_law_4 := dk_seg dksL_law_3 23 rfl rfl
theorem dksL_law_5 : cL_law.data.toList.drop 259 = dktL_law_5 := dk_seg dksL_law_4 24 rfl rfl
theorem dksL_law_6 : cL_law.data.toList.drop 282 = dktL_law_6 := dk_seg dksL_law_5 23 rfl rfl
theorem dksL_law_7 : cL_law.data.toList.drop 306 = dktL_law_7 := dk_seg dksL_law_6 24 rfl rfl
theorem dksL_law_8 : cL_law.data.toList.drop 330 = dktL_law_8 := dk_seg dksL_law_7 24 rfl rfl
theorem dksL_law_9 : cL_law.data.toList.drop 352 = dktL_law_9 := dk_seg dksL_law_8 22 rfl rfl
theorem dksL_law_10 : cL_law.data.toList.drop 375 = dktL_law_10 := dk_seg dksL_law_9 23 rfl rfl
theorem dksL_law_11 : cL_law.data.toList.drop 398 = dktL_law_11 := dk_seg dksL_law_10 23 rfl rfl
theorem dksL_law_12 : cL_law.data.toList.drop 422 = dktL_law_12 := dk_seg dksL_law_11 24 rfl rfl
theorem dksL_law_13 : cL_law.data.toList.drop 446 = dktL_law_13 := dk_seg dksL_law_12 24 rfl rfl
theorem dksL_law_14 : cL_law.data.toList.drop 470 = dktL_law_14 := dk_seg dksL_law_13 24 rfl rfl
theorem dksL_law_15 : cL_law.data.toList.drop 494 = dktL_law_15 := dk_seg dksL_law_14 24 rfl rfl
theorem dksL_law_16 : cL_law.data.toList.drop 516 = dktL_law_16 := dk_seg dksL_law_15 22 rfl rfl
theorem dksL_law_17 : cL_law.data.toList.drop 540 = dktL_law_17 := dk_seg dksL_law_16 24 rfl rfl
theorem dksL_law_18 : cL_law.data.toList.drop 564 = dktL_law_18 := dk_seg dksL_law_17 24 rfl rfl
theorem dksL_law_19 : cL_law.data.toList.drop 587 = dktL_law_19 := dk_seg dksL_law_18 23 rfl rfl
theorem dksL_law_20 : cL_law.data.toList.drop 611 = dktL_law_20 := dk_seg dksL_law_19 24 rfl rfl
theorem dksL_law_21 : cL_law.data.toList.drop 634 = dktL_law_21 := dk_seg dksL_law_20 23 rfl rfl
theorem dksL_law_22 : cL_law.data.toList.drop 658 = dktL_law_22 := dk_seg dksL_law_21 24 rfl rfl
theorem dksL_law_23 : cL_law.data.toList.drop 680 = dktL_law_23 := dk_seg dksL_law_22 22 rfl rfl
theorem dksL_law_24 : cL_law.data.toList.drop 702 = dktL_law_24 := dk_seg dksL_law_23 22 rfl rfl
theorem dksL_law_25 : cL_law.data.toList.drop 726 = dktL_law_25 := dk_seg dksL_law_24 24 rfl rfl
theorem dksL_law_26 : cL_law.data.toList.drop 748 = dktL_law_26 := dk_seg dksL_law_25 22 rfl rfl
theorem dksL_law_27 : cL_law.data.toList.drop 772 = dktL_law_27 := dk_seg dksL_law_26 24 rfl rfl
theorem dksL_law_28 : cL_law.data.toList.drop 795 = dktL_law_28 := dk_seg dksL_law_27 23 rfl rfl
theorem dksL_law_29 : cL_law.data.toList.drop 818 = dktL_law_29 := dk_seg dksL_law_28 23 rfl rfl
theorem dksL_law_30 : cL_law.data.toList.drop 842 = dktL_law_30 := dk_seg dksL_law_29 24 rfl rfl
theorem dksL_law_31 : cL_law.data.toList.drop 865 = dktL_law_31 := dk_seg dksL_law_30 23 rfl rfl
theorem dksL_law_32 : cL_law.data.toList.drop 889 = dktL_law_32 := dk_seg dksL_law_31 24 rfl rfl
theorem dksL_law_33 : cL_law.data.toList.drop 913 = dktL_law_33 := dk_seg dksL_law_32 24 rfl rfl
theorem dksL_law_34 : cL_law.data.toList.drop 935 = dktL_law_34 := dk_seg dksL_law_33 22 rfl rfl
theorem dksL_law_35 : cL_law.data.toList.drop 957 = dktL_law_35 := dk_seg dksL_law_34 22 rfl rfl
theorem dksL_law_36 : cL_law.data.toList.drop 980 = dktL_law_36 := dk_seg dksL_law_35 23 rfl rfl
theorem dksL_law_37 : cL_law.data.toList.drop 1004 = dktL_law_37 := dk_seg dksL_law_36 24 rfl rfl
theorem dksL_law_38 : cL_law.data.toList.drop 1027 = dktL_law_38 := dk_seg dksL_law_37 23 rfl rfl
theorem dksL_law_39 : cL_law.data.toList.drop 1051 = dktL_law_39 := dk_seg dksL_law_38 24 rfl rfl
theorem dksL_law_40 : cL_law.data.toList.drop 1074 = dktL_law_40 := dk_seg dksL_law_39 23 rfl rfl
theorem dksL_law_41 : cL_law.data.toList.drop 1098 = dktL_law_41 := dk_seg dksL_law_40 24 rfl rfl
theorem dksL_law_42 : cL_law.data.toList.drop 1121 = dktL_law_42 := dk_seg dksL_law_41 23 rfl rfl
theorem dksL_law_43 : cL_law.data.toList.drop 1144 = dktL_law_43 := dk_seg dksL_law_42 23 rfl rfl
theorem dksL_law_44 : cL_law.data.toList.drop 1168 = dktL_law_44 := dk_seg dksL_law_43 24 rfl rfl
theorem dksL_law_45 : cL_law.data.toList.drop 1192 = dktL_law_45 := dk_seg dksL_law_44 24 rfl rfl
theorem dksL_law_46 : cL_law.data.toList.drop 1216 = dktL_law_46 := dk_seg dksL_law_45 24 rfl rfl
theorem dksL_law_47 : cL_law.data.toList.drop 1240 = dktL_law_47 := dk_seg dksL_law_46 24 rfl rfl
theorem dksL_law_48 : cL_law.data.toList.drop 1264 = dktL_law_48 := dk_seg dksL_law_47 24 rfl rfl
theorem dksL_law_49 : cL_law.data.toList.drop 1288 = dktL_law_49 := dk_seg dksL_law_48 24 rfl rfl
theorem dksL_law_50 : cL_law.data.toList.drop 1310 = dktL_law_50 := dk_seg dksL_law_49 22 rfl rfl
theorem dksL_law_51 : cL_law.data.toList.drop 1332 = dktL_law_51 := dk_seg dksL_law_50 22 rfl rfl
theorem dksL_law_52 : cL_law.data.toList.drop 1356 = dktL_law_52 := dk_seg dksL_law_51 24 rfl rfl
theorem dksL_law_53 : cL_law.data.toList.drop 1378 = dktL_law_53 := dk_seg dksL_law_52 22 rfl rfl
theorem dksL_law_54 : cL_law.data.toList.drop 1402 = dktL_law_54 := dk_seg dksL_law_53 24 rfl rfl
theorem dksL_law_55 : cL_law.data.toList.drop 1426 = dktL_law_55 := dk_seg dksL_law_54 24 rfl rfl
theorem dksL_law_56 : cL_law.data.toList.drop 1450 = dktL_law_56 := dk_seg dksL_law_55 24 rfl rfl
theorem dksL_law_57 : cL_law.data.toList.drop 1473 = dktL_law_57 := dk_seg dksL_law_56 23 rfl rfl
theorem dksL_law_58 : cL_law.data.toList.drop 1496 = dktL_law_58 := dk_seg dksL_law_57 23 rfl rfl
theorem dksL_law_59 : cL_law.data.toList.drop 1520 = dktL_law_59 := dk_seg dksL_law_58 24 rfl rfl
theorem dksL_law_60 : cL_law.data.toList.drop 1544 = dktL_law_60 := dk_seg dksL_law_59 24 rfl rfl
theorem dksL_law_61 : cL_law.data.toList.drop 1567 = dktL_law_61 := dk_seg dksL_law_60 23 rfl rfl
theorem dksL_law_62 : cL_law.data.toList.drop 1591 = dktL_law_62 := dk_seg dksL_law_61 24 rfl rfl
theorem dksL_law_63 : cL_law.data.toList.drop 1615 = dktL_law_63 := dk_seg dksL_law_62 24 rfl rfl
theorem dksL_law_64 : cL_law.data.toList.drop 1637 = dktL_law_64 := dk_seg dksL_law_63 22 rfl rfl
theorem dksL_law_65 : cL_law.data.toList.drop 1659 = dktL_law_65 := dk_seg dksL_law_64 22 rfl rfl
theorem dksL_law_66 : cL_law.data.toList.drop 1682 = dktL_law_66 := dk_seg dksL_law_65 23 rfl rfl
theorem dksL_law_67 : cL_law.data.toList.drop 1706 = dktL_law_67 := dk_seg dksL_law_66 24 rfl rfl
theorem dksL_law_68 : cL_law.data.toList.drop 1730 = dktL_law_68 := dk_seg dksL_law_67 24 rfl rfl
theorem dksL_law_69 : cL_law.data.toList.drop 1754 = dktL_law_69 := dk_seg dksL_law_68 24 rfl rfl
theorem dksL_law_70 : cL_law.data.toList.drop 1778 = dktL_law_70 := dk_seg dksL_law_69 24 rfl rfl
theorem dksL_law_71 : cL_law.data.toList.drop 1802 = dktL_law_71 := dk_seg dksL_law_70 24 rfl rfl
theorem dksL_law_72 : cL_law.data.toList.drop 1825 = dktL_law_72 := dk_seg dksL_law_71 23 rfl rfl
theorem dksL_law_73 : cL_law.data.toList.drop 1849 = dktL_law_73 := dk_seg dksL_law_72 24 rfl rfl
theorem dksL_law_74 : cL_law.data.toList.drop 1871 = dktL_law_74 := dk_seg dksL_law_73 22 rfl rfl
theorem dksL_law_75 : cL_law.data.toList.drop 1894 = dktL_law_75 := dk_seg dksL_law_74 23 rfl rfl
theorem dksL_law_76 : cL_law.data.toList.drop 1918 = dktL_law_76 := dk_seg dksL_law_75 24 rfl rfl
theorem dksL_law_77 : cL_law.data.toList.drop 1942 = dktL_law_77 := dk_seg dksL_law_76 24 rfl rfl
theorem dksL_law_78 : cL_law.data.toList.drop 1966 = dktL_law_78 := dk_seg dksL_law_77 24 rfl rfl
theorem dksL_law_79 : cL_law.data.toList.drop 1990 = dktL_law_79 := dk_seg dksL_law_78 24 rfl rfl
theorem dksL_law_80 : cL_law.data.toList.drop 2012 = dktL_law_80 := dk_seg dksL_law_79 22 rfl rfl
theorem dksL_law_81 : cL_law.data.toList.drop 2034 = dktL_law_81 := dk_seg dksL_law_80 22 rfl rfl
theorem dksL_law_82 : cL_law.data.toList.drop 2058 = dktL_law_82 := dk_seg dksL_law_81 24 rfl rfl
theorem dksL_law_83 : cL_law.data.toList.drop 2080 = dktL_law_83 := dk_seg dksL_law_82 22 rfl rfl
theorem dksL_law_84 : cL_law.data.toList.drop 2103 = dktL_law_84 := dk_seg dksL_law_83 23 rfl rfl
theorem dksL_law_85 : cL_law.data.toList.drop 2126 = dktL_law_85 := dk_seg dksL_law_84 23 rfl rfl
theorem dksL_law_86 : cL_law.data.toList.drop 2150 = dktL_law_86 := dk_seg dksL_law_85 24 rfl rfl
theorem dksL_law_87 : cL_law.data.toList.drop 2173 = dktL_law_87 := dk_seg dksL_law_86 23 rfl rfl
theorem dksL_law_88 : cL_law.data.toList.drop 2197 = dktL_law_88 := dk_seg dksL_law_87 24 rfl rfl
theorem dksL_law_89 : cL_law.data.toList.drop 2221 = dktL_law_89 := dk_seg dksL_law_88 24 rfl rfl
theorem dksL_law_90 : cL_law.data.toList.drop 2245 = dktL_law_90 := dk_seg dksL_law_89 24 rfl rfl
theorem dksL_law_91 : cL_law.data.toList.drop 2269 = dktL_law_91 := dk_seg dksL_law_90 24 rfl rfl
theorem dksL_law_92 : cL_law.data.toList.drop 2293 = dktL_law_92 := dk_seg dksL_law_91 24 rfl rfl
theorem dksL_law_93 : cL_law.data.toList.drop 2317 = dktL_law_93 := dk_seg dksL_law_92 24 rfl rfl
theorem dksL_law_94 : cL_law.data.toList.drop 2340 = dktL_law_94 := dk_seg dksL_law_93 23 rfl rfl
theorem dksL_law_95 : cL_law.data.toList.drop 2364 = dktL_law_95 := dk_seg dksL_law_94 24 rfl rfl
theorem dksL_law_96 : cL_law.data.toList.drop 2388 = dktL_law_96 := dk_seg dksL_law_95 24 rfl rfl
theorem dksL_law_97 : cL_law.data.toList.drop 2412 = dktL_law_97 := dk_seg dksL_law_96 24 rfl rfl
theorem dksL_law_98 : cL_law.data.toList.drop 2436 = dktL_law_98 := dk_seg dksL_law_97 24 rfl rfl
theorem dksL_law_99 : cL_law.data.toList.drop 2460 = dktL_law_99 := dk_seg dksL_law_98 24 rfl rfl
theorem dL_law_0 : decode cL_law 0 = .ok (.new 8, 3) := dk_187 0 8 (dk_at dksL_law_0 0 rfl rfl)
theorem dL_law_3 : decode cL_law 3 = .ok (.dup, 1) := dk_89 (dk_at dksL_law_0 3 rfl rfl)
theorem dL_law_4 : decode cL_law 4 = .ok (.invokespecial 134, 3) := dk_183 0 134 (dk_at dksL_law_0 4 rfl rfl)
theorem dL_law_7 : decode cL_law 7 = .ok (.astore_n 1, 1) := dk_76 (dk_at dksL_law_0 7 rfl rfl)
theorem dL_law_8 : decode cL_law 8 = .ok (.new 135, 3) := dk_187 0 135 (dk_at dksL_law_0 8 rfl rfl)
theorem dL_law_11 : decode cL_law 11 = .ok (.dup, 1) := dk_89 (dk_at dksL_law_0 11 rfl rfl)
theorem dL_law_12 : decode cL_law 12 = .ok (.invokespecial 137, 3) := dk_183 0 137 (dk_at dksL_law_0 12 rfl rfl)
theorem dL_law_15 : decode cL_law 15 = .ok (.astore_n 2, 1) := dk_77 (dk_at dksL_law_0 15 rfl rfl)
theorem dL_law_16 : decode cL_law 16 = .ok (.iconst 1, 1) := dk_4 (dk_at dksL_law_0 16 rfl rfl)
theorem dL_law_17 : decode cL_law 17 = .ok (.newarray .long, 2) := dk_188_11 (dk_at dksL_law_0 17 rfl rfl)
theorem dL_law_19 : decode cL_law 19 = .ok (.astore_n 3, 1) := dk_78 (dk_at dksL_law_0 19 rfl rfl)
theorem dL_law_20 : decode cL_law 20 = .ok (.iconst 1, 1) := dk_4 (dk_at dksL_law_0 20 rfl rfl)
theorem dL_law_21 : decode cL_law 21 = .ok (.newarray .double, 2) := dk_188_7 (dk_at dksL_law_0 21 rfl rfl)
theorem dL_law_23 : decode cL_law 23 = .ok (.astore 4, 2) := dk_58 4 (dk_at dksL_law_1 0 rfl rfl)
theorem dL_law_25 : decode cL_law 25 = .ok (.iconst 0, 1) := dk_3 (dk_at dksL_law_1 2 rfl rfl)
theorem dL_law_26 : decode cL_law 26 = .ok (.istore 5, 2) := dk_54 5 (dk_at dksL_law_1 3 rfl rfl)
theorem dL_law_28 : decode cL_law 28 = .ok (.iload 5, 2) := dk_21 5 (dk_at dksL_law_1 5 rfl rfl)
theorem dL_law_30 : decode cL_law 30 = .ok (.aload_n 0, 1) := dk_42 (dk_at dksL_law_1 7 rfl rfl)
theorem dL_law_31 : decode cL_law 31 = .ok (.arraylength, 1) := dk_190 (dk_at dksL_law_1 8 rfl rfl)
theorem dL_law_32 : decode cL_law 32 = .ok (.iconst 5, 1) := dk_8 (dk_at dksL_law_1 9 rfl rfl)
theorem dL_law_33 : decode cL_law 33 = .ok (.isub, 1) := dk_100 (dk_at dksL_law_1 10 rfl rfl)
theorem dL_law_34 : decode cL_law 34 = .ok (.if_icmp .gt 2429, 3) := dk_163 9 125 (dk_at dksL_law_1 11 rfl rfl)
theorem dL_law_37 : decode cL_law 37 = .ok (.aload_n 0, 1) := dk_42 (dk_at dksL_law_1 14 rfl rfl)
theorem dL_law_38 : decode cL_law 38 = .ok (.iload 5, 2) := dk_21 5 (dk_at dksL_law_1 15 rfl rfl)
theorem dL_law_40 : decode cL_law 40 = .ok (.iaload, 1) := dk_46 (dk_at dksL_law_1 17 rfl rfl)
theorem dL_law_41 : decode cL_law 41 = .ok (.bipush 63, 2) := dk_16 63 (dk_at dksL_law_1 18 rfl rfl)
theorem dL_law_43 : decode cL_law 43 = .ok (.iand, 1) := dk_126 (dk_at dksL_law_1 20 rfl rfl)
theorem dL_law_44 : decode cL_law 44 = .ok (.tableswitch 2413 0 37 #[168, 224, 316, 372, 440, 508, 576, 644, 712, 792, 848, 916, 972, 1028, 1072, 1085, 1098, 1142, 1210, 1306, 1402, 1470, 1550, 1618, 1674, 1732, 1776, 1820, 1920, 1976, 2044, 2100, 2156, 2169, 2234, 2312, 2356, 2369], 168) := by decide +kernel
theorem dL_law_212 : decode cL_law 212 = .ok (.aload_n 1, 1) := dk_43 (dk_at dksL_law_3 0 rfl rfl)
theorem dL_law_213 : decode cL_law 213 = .ok (.aload_n 0, 1) := dk_42 (dk_at dksL_law_3 1 rfl rfl)
theorem dL_law_214 : decode cL_law 214 = .ok (.iload 5, 2) := dk_21 5 (dk_at dksL_law_3 2 rfl rfl)
theorem dL_law_216 : decode cL_law 216 = .ok (.iconst 1, 1) := dk_4 (dk_at dksL_law_3 4 rfl rfl)
theorem dL_law_217 : decode cL_law 217 = .ok (.iadd, 1) := dk_96 (dk_at dksL_law_3 5 rfl rfl)
theorem dL_law_218 : decode cL_law 218 = .ok (.iaload, 1) := dk_46 (dk_at dksL_law_3 6 rfl rfl)
theorem dL_law_219 : decode cL_law 219 = .ok (.aload_n 3, 1) := dk_45 (dk_at dksL_law_3 7 rfl rfl)
theorem dL_law_220 : decode cL_law 220 = .ok (.invokestatic 138, 3) := dk_184 0 138 (dk_at dksL_law_3 8 rfl rfl)
theorem dL_law_223 : decode cL_law 223 = .ok (.istore 6, 2) := dk_54 6 (dk_at dksL_law_3 11 rfl rfl)
theorem dL_law_225 : decode cL_law 225 = .ok (.aload_n 2, 1) := dk_44 (dk_at dksL_law_3 13 rfl rfl)
theorem dL_law_226 : decode cL_law 226 = .ok (.aload_n 0, 1) := dk_42 (dk_at dksL_law_3 14 rfl rfl)
theorem dL_law_227 : decode cL_law 227 = .ok (.iload 5, 2) := dk_21 5 (dk_at dksL_law_3 15 rfl rfl)
theorem dL_law_229 : decode cL_law 229 = .ok (.iconst 1, 1) := dk_4 (dk_at dksL_law_3 17 rfl rfl)
theorem dL_law_230 : decode cL_law 230 = .ok (.iadd, 1) := dk_96 (dk_at dksL_law_3 18 rfl rfl)
theorem dL_law_231 : decode cL_law 231 = .ok (.iaload, 1) := dk_46 (dk_at dksL_law_3 19 rfl rfl)
theorem dL_law_232 : decode cL_law 232 = .ok (.invokevirtual 143, 3) := dk_182 0 143 (dk_at dksL_law_3 20 rfl rfl)
theorem dL_law_235 : decode cL_law 235 = .ok (.istore 7, 2) := dk_54 7 (dk_at dksL_law_4 0 rfl rfl)
theorem dL_law_237 : decode cL_law 237 = .ok (.aload_n 2, 1) := dk_44 (dk_at dksL_law_4 2 rfl rfl)
theorem dL_law_238 : decode cL_law 238 = .ok (.invokevirtual 144, 3) := dk_182 0 144 (dk_at dksL_law_4 3 rfl rfl)
theorem dL_law_241 : decode cL_law 241 = .ok (.iload 6, 2) := dk_21 6 (dk_at dksL_law_4 6 rfl rfl)
theorem dL_law_243 : decode cL_law 243 = .ok (.if_icmp .eq 5, 3) := dk_159 0 5 (dk_at dksL_law_4 8 rfl rfl)
theorem dL_law_246 : decode cL_law 246 = .ok (.iconst 0, 1) := dk_3 (dk_at dksL_law_4 11 rfl rfl)
theorem dL_law_247 : decode cL_law 247 = .ok (.ireturn, 1) := dk_172 (dk_at dksL_law_4 12 rfl rfl)
theorem dL_law_248 : decode cL_law 248 = .ok (.iload 6, 2) := dk_21 6 (dk_at dksL_law_4 13 rfl rfl)
theorem dL_law_250 : decode cL_law 250 = .ok (.ifCond .ne 15, 3) := dk_154 0 15 (dk_at dksL_law_4 15 rfl rfl)
theorem dL_law_253 : decode cL_law 253 = .ok (.aload_n 3, 1) := dk_45 (dk_at dksL_law_4 18 rfl rfl)
theorem dL_law_254 : decode cL_law 254 = .ok (.iconst 0, 1) := dk_3 (dk_at dksL_law_4 19 rfl rfl)
theorem dL_law_255 : decode cL_law 255 = .ok (.laload, 1) := dk_47 (dk_at dksL_law_4 20 rfl rfl)
theorem dL_law_256 : decode cL_law 256 = .ok (.iload 7, 2) := dk_21 7 (dk_at dksL_law_4 21 rfl rfl)
theorem dL_law_258 : decode cL_law 258 = .ok (.i2l, 1) := dk_133 (dk_at dksL_law_4 23 rfl rfl)
theorem dL_law_259 : decode cL_law 259 = .ok (.lcmp, 1) := dk_148 (dk_at dksL_law_5 0 rfl rfl)
theorem dL_law_260 : decode cL_law 260 = .ok (.ifCond .eq 5, 3) := dk_153 0 5 (dk_at dksL_law_5 1 rfl rfl)
theorem dL_law_263 : decode cL_law 263 = .ok (.iconst 0, 1) := dk_3 (dk_at dksL_law_5 4 rfl rfl)
theorem dL_law_264 : decode cL_law 264 = .ok (.ireturn, 1) := dk_172 (dk_at dksL_law_5 5 rfl rfl)
theorem dL_law_265 : decode cL_law 265 = .ok (.goto 2192, 3) := dk_167 8 144 (dk_at dksL_law_5 6 rfl rfl)
theorem dL_law_268 : decode cL_law 268 = .ok (.aload_n 1, 1) := dk_43 (dk_at dksL_law_5 9 rfl rfl)
theorem dL_law_269 : decode cL_law 269 = .ok (.aload_n 0, 1) := dk_42 (dk_at dksL_law_5 10 rfl rfl)
theorem dL_law_270 : decode cL_law 270 = .ok (.iload 5, 2) := dk_21 5 (dk_at dksL_law_5 11 rfl rfl)
theorem dL_law_272 : decode cL_law 272 = .ok (.iconst 1, 1) := dk_4 (dk_at dksL_law_5 13 rfl rfl)
theorem dL_law_273 : decode cL_law 273 = .ok (.iadd, 1) := dk_96 (dk_at dksL_law_5 14 rfl rfl)
theorem dL_law_274 : decode cL_law 274 = .ok (.iaload, 1) := dk_46 (dk_at dksL_law_5 15 rfl rfl)
theorem dL_law_275 : decode cL_law 275 = .ok (.aload_n 0, 1) := dk_42 (dk_at dksL_law_5 16 rfl rfl)
theorem dL_law_276 : decode cL_law 276 = .ok (.iload 5, 2) := dk_21 5 (dk_at dksL_law_5 17 rfl rfl)
theorem dL_law_278 : decode cL_law 278 = .ok (.iconst 2, 1) := dk_5 (dk_at dksL_law_5 19 rfl rfl)
theorem dL_law_279 : decode cL_law 279 = .ok (.iadd, 1) := dk_96 (dk_at dksL_law_5 20 rfl rfl)
theorem dL_law_280 : decode cL_law 280 = .ok (.iaload, 1) := dk_46 (dk_at dksL_law_5 21 rfl rfl)
theorem dL_law_281 : decode cL_law 281 = .ok (.aload_n 0, 1) := dk_42 (dk_at dksL_law_5 22 rfl rfl)
theorem dL_law_282 : decode cL_law 282 = .ok (.iload 5, 2) := dk_21 5 (dk_at dksL_law_6 0 rfl rfl)
theorem dL_law_284 : decode cL_law 284 = .ok (.iconst 3, 1) := dk_6 (dk_at dksL_law_6 2 rfl rfl)
theorem dL_law_285 : decode cL_law 285 = .ok (.iadd, 1) := dk_96 (dk_at dksL_law_6 3 rfl rfl)
theorem dL_law_286 : decode cL_law 286 = .ok (.iaload, 1) := dk_46 (dk_at dksL_law_6 4 rfl rfl)
theorem dL_law_287 : decode cL_law 287 = .ok (.aload_n 0, 1) := dk_42 (dk_at dksL_law_6 5 rfl rfl)
theorem dL_law_288 : decode cL_law 288 = .ok (.iload 5, 2) := dk_21 5 (dk_at dksL_law_6 6 rfl rfl)
theorem dL_law_290 : decode cL_law 290 = .ok (.iconst 4, 1) := dk_7 (dk_at dksL_law_6 8 rfl rfl)
theorem dL_law_291 : decode cL_law 291 = .ok (.iadd, 1) := dk_96 (dk_at dksL_law_6 9 rfl rfl)
theorem dL_law_292 : decode cL_law 292 = .ok (.iaload, 1) := dk_46 (dk_at dksL_law_6 10 rfl rfl)
theorem dL_law_293 : decode cL_law 293 = .ok (.aload_n 3, 1) := dk_45 (dk_at dksL_law_6 11 rfl rfl)
theorem dL_law_294 : decode cL_law 294 = .ok (.invokestatic 147, 3) := dk_184 0 147 (dk_at dksL_law_6 12 rfl rfl)
theorem dL_law_297 : decode cL_law 297 = .ok (.istore 6, 2) := dk_54 6 (dk_at dksL_law_6 15 rfl rfl)
theorem dL_law_299 : decode cL_law 299 = .ok (.aload_n 2, 1) := dk_44 (dk_at dksL_law_6 17 rfl rfl)
theorem dL_law_300 : decode cL_law 300 = .ok (.aload_n 0, 1) := dk_42 (dk_at dksL_law_6 18 rfl rfl)
theorem dL_law_301 : decode cL_law 301 = .ok (.iload 5, 2) := dk_21 5 (dk_at dksL_law_6 19 rfl rfl)
theorem dL_law_303 : decode cL_law 303 = .ok (.iconst 1, 1) := dk_4 (dk_at dksL_law_6 21 rfl rfl)
theorem dL_law_304 : decode cL_law 304 = .ok (.iadd, 1) := dk_96 (dk_at dksL_law_6 22 rfl rfl)
theorem dL_law_305 : decode cL_law 305 = .ok (.iaload, 1) := dk_46 (dk_at dksL_law_6 23 rfl rfl)
theorem dL_law_306 : decode cL_law 306 = .ok (.aload_n 0, 1) := dk_42 (dk_at dksL_law_7 0 rfl rfl)
theorem dL_law_307 : decode cL_law 307 = .ok (.iload 5, 2) := dk_21 5 (dk_at dksL_law_7 1 rfl rfl)
theorem dL_law_309 : decode cL_law 309 = .ok (.iconst 2, 1) := dk_5 (dk_at dksL_law_7 3 rfl rfl)
theorem dL_law_310 : decode cL_law 310 = .ok (.iadd, 1) := dk_96 (dk_at dksL_law_7 4 rfl rfl)
theorem dL_law_311 : decode cL_law 311 = .ok (.iaload, 1) := dk_46 (dk_at dksL_law_7 5 rfl rfl)
theorem dL_law_312 : decode cL_law 312 = .ok (.aload_n 0, 1) := dk_42 (dk_at dksL_law_7 6 rfl rfl)
theorem dL_law_313 : decode cL_law 313 = .ok (.iload 5, 2) := dk_21 5 (dk_at dksL_law_7 7 rfl rfl)
theorem dL_law_315 : decode cL_law 315 = .ok (.iconst 3, 1) := dk_6 (dk_at dksL_law_7 9 rfl rfl)
theorem dL_law_316 : decode cL_law 316 = .ok (.iadd, 1) := dk_96 (dk_at dksL_law_7 10 rfl rfl)
theorem dL_law_317 : decode cL_law 317 = .ok (.iaload, 1) := dk_46 (dk_at dksL_law_7 11 rfl rfl)
theorem dL_law_318 : decode cL_law 318 = .ok (.aload_n 0, 1) := dk_42 (dk_at dksL_law_7 12 rfl rfl)
theorem dL_law_319 : decode cL_law 319 = .ok (.iload 5, 2) := dk_21 5 (dk_at dksL_law_7 13 rfl rfl)
theorem dL_law_321 : decode cL_law 321 = .ok (.iconst 4, 1) := dk_7 (dk_at dksL_law_7 15 rfl rfl)
theorem dL_law_322 : decode cL_law 322 = .ok (.iadd, 1) := dk_96 (dk_at dksL_law_7 16 rfl rfl)
theorem dL_law_323 : decode cL_law 323 = .ok (.iaload, 1) := dk_46 (dk_at dksL_law_7 17 rfl rfl)
theorem dL_law_324 : decode cL_law 324 = .ok (.invokevirtual 150, 3) := dk_182 0 150 (dk_at dksL_law_7 18 rfl rfl)
theorem dL_law_327 : decode cL_law 327 = .ok (.istore 7, 2) := dk_54 7 (dk_at dksL_law_7 21 rfl rfl)
theorem dL_law_329 : decode cL_law 329 = .ok (.aload_n 2, 1) := dk_44 (dk_at dksL_law_7 23 rfl rfl)
theorem dL_law_330 : decode cL_law 330 = .ok (.invokevirtual 144, 3) := dk_182 0 144 (dk_at dksL_law_8 0 rfl rfl)
theorem dL_law_333 : decode cL_law 333 = .ok (.iload 6, 2) := dk_21 6 (dk_at dksL_law_8 3 rfl rfl)
theorem dL_law_335 : decode cL_law 335 = .ok (.if_icmp .eq 5, 3) := dk_159 0 5 (dk_at dksL_law_8 5 rfl rfl)
theorem dL_law_338 : decode cL_law 338 = .ok (.iconst 0, 1) := dk_3 (dk_at dksL_law_8 8 rfl rfl)
theorem dL_law_339 : decode cL_law 339 = .ok (.ireturn, 1) := dk_172 (dk_at dksL_law_8 9 rfl rfl)
theorem dL_law_340 : decode cL_law 340 = .ok (.iload 6, 2) := dk_21 6 (dk_at dksL_law_8 10 rfl rfl)
theorem dL_law_342 : decode cL_law 342 = .ok (.ifCond .ne 15, 3) := dk_154 0 15 (dk_at dksL_law_8 12 rfl rfl)
theorem dL_law_345 : decode cL_law 345 = .ok (.aload_n 3, 1) := dk_45 (dk_at dksL_law_8 15 rfl rfl)
theorem dL_law_346 : decode cL_law 346 = .ok (.iconst 0, 1) := dk_3 (dk_at dksL_law_8 16 rfl rfl)
theorem dL_law_347 : decode cL_law 347 = .ok (.laload, 1) := dk_47 (dk_at dksL_law_8 17 rfl rfl)
theorem dL_law_348 : decode cL_law 348 = .ok (.iload 7, 2) := dk_21 7 (dk_at dksL_law_8 18 rfl rfl)
theorem dL_law_350 : decode cL_law 350 = .ok (.i2l, 1) := dk_133 (dk_at dksL_law_8 20 rfl rfl)
theorem dL_law_351 : decode cL_law 351 = .ok (.lcmp, 1) := dk_148 (dk_at dksL_law_8 21 rfl rfl)
theorem dL_law_352 : decode cL_law 352 = .ok (.ifCond .eq 5, 3) := dk_153 0 5 (dk_at dksL_law_9 0 rfl rfl)
theorem dL_law_355 : decode cL_law 355 = .ok (.iconst 0, 1) := dk_3 (dk_at dksL_law_9 3 rfl rfl)
theorem dL_law_356 : decode cL_law 356 = .ok (.ireturn, 1) := dk_172 (dk_at dksL_law_9 4 rfl rfl)
theorem dL_law_357 : decode cL_law 357 = .ok (.goto 2100, 3) := dk_167 8 52 (dk_at dksL_law_9 5 rfl rfl)
theorem dL_law_360 : decode cL_law 360 = .ok (.aload_n 1, 1) := dk_43 (dk_at dksL_law_9 8 rfl rfl)
theorem dL_law_361 : decode cL_law 361 = .ok (.aload_n 0, 1) := dk_42 (dk_at dksL_law_9 9 rfl rfl)
theorem dL_law_362 : decode cL_law 362 = .ok (.iload 5, 2) := dk_21 5 (dk_at dksL_law_9 10 rfl rfl)
theorem dL_law_364 : decode cL_law 364 = .ok (.iconst 1, 1) := dk_4 (dk_at dksL_law_9 12 rfl rfl)
theorem dL_law_365 : decode cL_law 365 = .ok (.iadd, 1) := dk_96 (dk_at dksL_law_9 13 rfl rfl)
theorem dL_law_366 : decode cL_law 366 = .ok (.iaload, 1) := dk_46 (dk_at dksL_law_9 14 rfl rfl)
theorem dL_law_367 : decode cL_law 367 = .ok (.aload_n 3, 1) := dk_45 (dk_at dksL_law_9 15 rfl rfl)
theorem dL_law_368 : decode cL_law 368 = .ok (.invokestatic 151, 3) := dk_184 0 151 (dk_at dksL_law_9 16 rfl rfl)
theorem dL_law_371 : decode cL_law 371 = .ok (.istore 6, 2) := dk_54 6 (dk_at dksL_law_9 19 rfl rfl)
theorem dL_law_373 : decode cL_law 373 = .ok (.aload_n 2, 1) := dk_44 (dk_at dksL_law_9 21 rfl rfl)
theorem dL_law_374 : decode cL_law 374 = .ok (.aload_n 0, 1) := dk_42 (dk_at dksL_law_9 22 rfl rfl)
theorem dL_law_375 : decode cL_law 375 = .ok (.iload 5, 2) := dk_21 5 (dk_at dksL_law_10 0 rfl rfl)
theorem dL_law_377 : decode cL_law 377 = .ok (.iconst 1, 1) := dk_4 (dk_at dksL_law_10 2 rfl rfl)
theorem dL_law_378 : decode cL_law 378 = .ok (.iadd, 1) := dk_96 (dk_at dksL_law_10 3 rfl rfl)
theorem dL_law_379 : decode cL_law 379 = .ok (.iaload, 1) := dk_46 (dk_at dksL_law_10 4 rfl rfl)
theorem dL_law_380 : decode cL_law 380 = .ok (.invokevirtual 153, 3) := dk_182 0 153 (dk_at dksL_law_10 5 rfl rfl)
theorem dL_law_383 : decode cL_law 383 = .ok (.istore 7, 2) := dk_54 7 (dk_at dksL_law_10 8 rfl rfl)
theorem dL_law_385 : decode cL_law 385 = .ok (.aload_n 2, 1) := dk_44 (dk_at dksL_law_10 10 rfl rfl)
theorem dL_law_386 : decode cL_law 386 = .ok (.invokevirtual 144, 3) := dk_182 0 144 (dk_at dksL_law_10 11 rfl rfl)
theorem dL_law_389 : decode cL_law 389 = .ok (.iload 6, 2) := dk_21 6 (dk_at dksL_law_10 14 rfl rfl)
theorem dL_law_391 : decode cL_law 391 = .ok (.if_icmp .eq 5, 3) := dk_159 0 5 (dk_at dksL_law_10 16 rfl rfl)
theorem dL_law_394 : decode cL_law 394 = .ok (.iconst 0, 1) := dk_3 (dk_at dksL_law_10 19 rfl rfl)
theorem dL_law_395 : decode cL_law 395 = .ok (.ireturn, 1) := dk_172 (dk_at dksL_law_10 20 rfl rfl)
theorem dL_law_396 : decode cL_law 396 = .ok (.iload 6, 2) := dk_21 6 (dk_at dksL_law_10 21 rfl rfl)
theorem dL_law_398 : decode cL_law 398 = .ok (.ifCond .ne 15, 3) := dk_154 0 15 (dk_at dksL_law_11 0 rfl rfl)
theorem dL_law_401 : decode cL_law 401 = .ok (.aload_n 3, 1) := dk_45 (dk_at dksL_law_11 3 rfl rfl)
theorem dL_law_402 : decode cL_law 402 = .ok (.iconst 0, 1) := dk_3 (dk_at dksL_law_11 4 rfl rfl)
theorem dL_law_403 : decode cL_law 403 = .ok (.laload, 1) := dk_47 (dk_at dksL_law_11 5 rfl rfl)
theorem dL_law_404 : decode cL_law 404 = .ok (.iload 7, 2) := dk_21 7 (dk_at dksL_law_11 6 rfl rfl)
theorem dL_law_406 : decode cL_law 406 = .ok (.i2l, 1) := dk_133 (dk_at dksL_law_11 8 rfl rfl)
theorem dL_law_407 : decode cL_law 407 = .ok (.lcmp, 1) := dk_148 (dk_at dksL_law_11 9 rfl rfl)
theorem dL_law_408 : decode cL_law 408 = .ok (.ifCond .eq 5, 3) := dk_153 0 5 (dk_at dksL_law_11 10 rfl rfl)
theorem dL_law_411 : decode cL_law 411 = .ok (.iconst 0, 1) := dk_3 (dk_at dksL_law_11 13 rfl rfl)
theorem dL_law_412 : decode cL_law 412 = .ok (.ireturn, 1) := dk_172 (dk_at dksL_law_11 14 rfl rfl)
theorem dL_law_413 : decode cL_law 413 = .ok (.goto 2044, 3) := dk_167 7 252 (dk_at dksL_law_11 15 rfl rfl)
theorem dL_law_416 : decode cL_law 416 = .ok (.aload_n 1, 1) := dk_43 (dk_at dksL_law_11 18 rfl rfl)
theorem dL_law_417 : decode cL_law 417 = .ok (.aload_n 0, 1) := dk_42 (dk_at dksL_law_11 19 rfl rfl)
theorem dL_law_418 : decode cL_law 418 = .ok (.iload 5, 2) := dk_21 5 (dk_at dksL_law_11 20 rfl rfl)
theorem dL_law_420 : decode cL_law 420 = .ok (.iconst 1, 1) := dk_4 (dk_at dksL_law_11 22 rfl rfl)
theorem dL_law_421 : decode cL_law 421 = .ok (.iadd, 1) := dk_96 (dk_at dksL_law_11 23 rfl rfl)
theorem dL_law_422 : decode cL_law 422 = .ok (.iaload, 1) := dk_46 (dk_at dksL_law_12 0 rfl rfl)
theorem dL_law_423 : decode cL_law 423 = .ok (.aload_n 0, 1) := dk_42 (dk_at dksL_law_12 1 rfl rfl)
theorem dL_law_424 : decode cL_law 424 = .ok (.iload 5, 2) := dk_21 5 (dk_at dksL_law_12 2 rfl rfl)
theorem dL_law_426 : decode cL_law 426 = .ok (.iconst 2, 1) := dk_5 (dk_at dksL_law_12 4 rfl rfl)
theorem dL_law_427 : decode cL_law 427 = .ok (.iadd, 1) := dk_96 (dk_at dksL_law_12 5 rfl rfl)
theorem dL_law_428 : decode cL_law 428 = .ok (.iaload, 1) := dk_46 (dk_at dksL_law_12 6 rfl rfl)
theorem dL_law_429 : decode cL_law 429 = .ok (.aload_n 3, 1) := dk_45 (dk_at dksL_law_12 7 rfl rfl)
theorem dL_law_430 : decode cL_law 430 = .ok (.invokestatic 154, 3) := dk_184 0 154 (dk_at dksL_law_12 8 rfl rfl)
theorem dL_law_433 : decode cL_law 433 = .ok (.istore 6, 2) := dk_54 6 (dk_at dksL_law_12 11 rfl rfl)
theorem dL_law_435 : decode cL_law 435 = .ok (.aload_n 2, 1) := dk_44 (dk_at dksL_law_12 13 rfl rfl)
theorem dL_law_436 : decode cL_law 436 = .ok (.aload_n 0, 1) := dk_42 (dk_at dksL_law_12 14 rfl rfl)
theorem dL_law_437 : decode cL_law 437 = .ok (.iload 5, 2) := dk_21 5 (dk_at dksL_law_12 15 rfl rfl)
theorem dL_law_439 : decode cL_law 439 = .ok (.iconst 1, 1) := dk_4 (dk_at dksL_law_12 17 rfl rfl)
theorem dL_law_440 : decode cL_law 440 = .ok (.iadd, 1) := dk_96 (dk_at dksL_law_12 18 rfl rfl)
theorem dL_law_441 : decode cL_law 441 = .ok (.iaload, 1) := dk_46 (dk_at dksL_law_12 19 rfl rfl)
theorem dL_law_442 : decode cL_law 442 = .ok (.aload_n 0, 1) := dk_42 (dk_at dksL_law_12 20 rfl rfl)
theorem dL_law_443 : decode cL_law 443 = .ok (.iload 5, 2) := dk_21 5 (dk_at dksL_law_12 21 rfl rfl)
theorem dL_law_445 : decode cL_law 445 = .ok (.iconst 2, 1) := dk_5 (dk_at dksL_law_12 23 rfl rfl)
theorem dL_law_446 : decode cL_law 446 = .ok (.iadd, 1) := dk_96 (dk_at dksL_law_13 0 rfl rfl)
theorem dL_law_447 : decode cL_law 447 = .ok (.iaload, 1) := dk_46 (dk_at dksL_law_13 1 rfl rfl)
theorem dL_law_448 : decode cL_law 448 = .ok (.invokevirtual 157, 3) := dk_182 0 157 (dk_at dksL_law_13 2 rfl rfl)
theorem dL_law_451 : decode cL_law 451 = .ok (.istore 7, 2) := dk_54 7 (dk_at dksL_law_13 5 rfl rfl)
theorem dL_law_453 : decode cL_law 453 = .ok (.aload_n 2, 1) := dk_44 (dk_at dksL_law_13 7 rfl rfl)
theorem dL_law_454 : decode cL_law 454 = .ok (.invokevirtual 144, 3) := dk_182 0 144 (dk_at dksL_law_13 8 rfl rfl)
theorem dL_law_457 : decode cL_law 457 = .ok (.iload 6, 2) := dk_21 6 (dk_at dksL_law_13 11 rfl rfl)
theorem dL_law_459 : decode cL_law 459 = .ok (.if_icmp .eq 5, 3) := dk_159 0 5 (dk_at dksL_law_13 13 rfl rfl)
theorem dL_law_462 : decode cL_law 462 = .ok (.iconst 0, 1) := dk_3 (dk_at dksL_law_13 16 rfl rfl)
theorem dL_law_463 : decode cL_law 463 = .ok (.ireturn, 1) := dk_172 (dk_at dksL_law_13 17 rfl rfl)
theorem dL_law_464 : decode cL_law 464 = .ok (.iload 6, 2) := dk_21 6 (dk_at dksL_law_13 18 rfl rfl)
theorem dL_law_466 : decode cL_law 466 = .ok (.ifCond .ne 15, 3) := dk_154 0 15 (dk_at dksL_law_13 20 rfl rfl)
theorem dL_law_469 : decode cL_law 469 = .ok (.aload_n 3, 1) := dk_45 (dk_at dksL_law_13 23 rfl rfl)
theorem dL_law_470 : decode cL_law 470 = .ok (.iconst 0, 1) := dk_3 (dk_at dksL_law_14 0 rfl rfl)
theorem dL_law_471 : decode cL_law 471 = .ok (.laload, 1) := dk_47 (dk_at dksL_law_14 1 rfl rfl)
theorem dL_law_472 : decode cL_law 472 = .ok (.iload 7, 2) := dk_21 7 (dk_at dksL_law_14 2 rfl rfl)
theorem dL_law_474 : decode cL_law 474 = .ok (.i2l, 1) := dk_133 (dk_at dksL_law_14 4 rfl rfl)
theorem dL_law_475 : decode cL_law 475 = .ok (.lcmp, 1) := dk_148 (dk_at dksL_law_14 5 rfl rfl)
theorem dL_law_476 : decode cL_law 476 = .ok (.ifCond .eq 5, 3) := dk_153 0 5 (dk_at dksL_law_14 6 rfl rfl)
theorem dL_law_479 : decode cL_law 479 = .ok (.iconst 0, 1) := dk_3 (dk_at dksL_law_14 9 rfl rfl)
theorem dL_law_480 : decode cL_law 480 = .ok (.ireturn, 1) := dk_172 (dk_at dksL_law_14 10 rfl rfl)
theorem dL_law_481 : decode cL_law 481 = .ok (.goto 1976, 3) := dk_167 7 184 (dk_at dksL_law_14 11 rfl rfl)
theorem dL_law_484 : decode cL_law 484 = .ok (.aload_n 1, 1) := dk_43 (dk_at dksL_law_14 14 rfl rfl)
theorem dL_law_485 : decode cL_law 485 = .ok (.aload_n 0, 1) := dk_42 (dk_at dksL_law_14 15 rfl rfl)
theorem dL_law_486 : decode cL_law 486 = .ok (.iload 5, 2) := dk_21 5 (dk_at dksL_law_14 16 rfl rfl)
theorem dL_law_488 : decode cL_law 488 = .ok (.iconst 1, 1) := dk_4 (dk_at dksL_law_14 18 rfl rfl)
theorem dL_law_489 : decode cL_law 489 = .ok (.iadd, 1) := dk_96 (dk_at dksL_law_14 19 rfl rfl)
theorem dL_law_490 : decode cL_law 490 = .ok (.iaload, 1) := dk_46 (dk_at dksL_law_14 20 rfl rfl)
theorem dL_law_491 : decode cL_law 491 = .ok (.aload_n 0, 1) := dk_42 (dk_at dksL_law_14 21 rfl rfl)
theorem dL_law_492 : decode cL_law 492 = .ok (.iload 5, 2) := dk_21 5 (dk_at dksL_law_14 22 rfl rfl)
theorem dL_law_494 : decode cL_law 494 = .ok (.iconst 2, 1) := dk_5 (dk_at dksL_law_15 0 rfl rfl)
theorem dL_law_495 : decode cL_law 495 = .ok (.iadd, 1) := dk_96 (dk_at dksL_law_15 1 rfl rfl)
theorem dL_law_496 : decode cL_law 496 = .ok (.iaload, 1) := dk_46 (dk_at dksL_law_15 2 rfl rfl)
theorem dL_law_497 : decode cL_law 497 = .ok (.aload_n 3, 1) := dk_45 (dk_at dksL_law_15 3 rfl rfl)
theorem dL_law_498 : decode cL_law 498 = .ok (.invokestatic 158, 3) := dk_184 0 158 (dk_at dksL_law_15 4 rfl rfl)
theorem dL_law_501 : decode cL_law 501 = .ok (.istore 6, 2) := dk_54 6 (dk_at dksL_law_15 7 rfl rfl)
theorem dL_law_503 : decode cL_law 503 = .ok (.aload_n 2, 1) := dk_44 (dk_at dksL_law_15 9 rfl rfl)
theorem dL_law_504 : decode cL_law 504 = .ok (.aload_n 0, 1) := dk_42 (dk_at dksL_law_15 10 rfl rfl)
theorem dL_law_505 : decode cL_law 505 = .ok (.iload 5, 2) := dk_21 5 (dk_at dksL_law_15 11 rfl rfl)
theorem dL_law_507 : decode cL_law 507 = .ok (.iconst 1, 1) := dk_4 (dk_at dksL_law_15 13 rfl rfl)
theorem dL_law_508 : decode cL_law 508 = .ok (.iadd, 1) := dk_96 (dk_at dksL_law_15 14 rfl rfl)
theorem dL_law_509 : decode cL_law 509 = .ok (.iaload, 1) := dk_46 (dk_at dksL_law_15 15 rfl rfl)
theorem dL_law_510 : decode cL_law 510 = .ok (.aload_n 0, 1) := dk_42 (dk_at dksL_law_15 16 rfl rfl)
theorem dL_law_511 : decode cL_law 511 = .ok (.iload 5, 2) := dk_21 5 (dk_at dksL_law_15 17 rfl rfl)
theorem dL_law_513 : decode cL_law 513 = .ok (.iconst 2, 1) := dk_5 (dk_at dksL_law_15 19 rfl rfl)
theorem dL_law_514 : decode cL_law 514 = .ok (.iadd, 1) := dk_96 (dk_at dksL_law_15 20 rfl rfl)
theorem dL_law_515 : decode cL_law 515 = .ok (.iaload, 1) := dk_46 (dk_at dksL_law_15 21 rfl rfl)
theorem dL_law_516 : decode cL_law 516 = .ok (.invokevirtual 160, 3) := dk_182 0 160 (dk_at dksL_law_16 0 rfl rfl)
theorem dL_law_519 : decode cL_law 519 = .ok (.istore 7, 2) := dk_54 7 (dk_at dksL_law_16 3 rfl rfl)
theorem dL_law_521 : decode cL_law 521 = .ok (.aload_n 2, 1) := dk_44 (dk_at dksL_law_16 5 rfl rfl)
theorem dL_law_522 : decode cL_law 522 = .ok (.invokevirtual 144, 3) := dk_182 0 144 (dk_at dksL_law_16 6 rfl rfl)
theorem dL_law_525 : decode cL_law 525 = .ok (.iload 6, 2) := dk_21 6 (dk_at dksL_law_16 9 rfl rfl)
theorem dL_law_527 : decode cL_law 527 = .ok (.if_icmp .eq 5, 3) := dk_159 0 5 (dk_at dksL_law_16 11 rfl rfl)
theorem dL_law_530 : decode cL_law 530 = .ok (.iconst 0, 1) := dk_3 (dk_at dksL_law_16 14 rfl rfl)
theorem dL_law_531 : decode cL_law 531 = .ok (.ireturn, 1) := dk_172 (dk_at dksL_law_16 15 rfl rfl)
theorem dL_law_532 : decode cL_law 532 = .ok (.iload 6, 2) := dk_21 6 (dk_at dksL_law_16 16 rfl rfl)
theorem dL_law_534 : decode cL_law 534 = .ok (.ifCond .ne 15, 3) := dk_154 0 15 (dk_at dksL_law_16 18 rfl rfl)
theorem dL_law_537 : decode cL_law 537 = .ok (.aload_n 3, 1) := dk_45 (dk_at dksL_law_16 21 rfl rfl)
theorem dL_law_538 : decode cL_law 538 = .ok (.iconst 0, 1) := dk_3 (dk_at dksL_law_16 22 rfl rfl)
theorem dL_law_539 : decode cL_law 539 = .ok (.laload, 1) := dk_47 (dk_at dksL_law_16 23 rfl rfl)
theorem dL_law_540 : decode cL_law 540 = .ok (.iload 7, 2) := dk_21 7 (dk_at dksL_law_17 0 rfl rfl)
theorem dL_law_542 : decode cL_law 542 = .ok (.i2l, 1) := dk_133 (dk_at dksL_law_17 2 rfl rfl)
theorem dL_law_543 : decode cL_law 543 = .ok (.lcmp, 1) := dk_148 (dk_at dksL_law_17 3 rfl rfl)
theorem dL_law_544 : decode cL_law 544 = .ok (.ifCond .eq 5, 3) := dk_153 0 5 (dk_at dksL_law_17 4 rfl rfl)
theorem dL_law_547 : decode cL_law 547 = .ok (.iconst 0, 1) := dk_3 (dk_at dksL_law_17 7 rfl rfl)
theorem dL_law_548 : decode cL_law 548 = .ok (.ireturn, 1) := dk_172 (dk_at dksL_law_17 8 rfl rfl)
theorem dL_law_549 : decode cL_law 549 = .ok (.goto 1908, 3) := dk_167 7 116 (dk_at dksL_law_17 9 rfl rfl)
theorem dL_law_552 : decode cL_law 552 = .ok (.aload_n 1, 1) := dk_43 (dk_at dksL_law_17 12 rfl rfl)
theorem dL_law_553 : decode cL_law 553 = .ok (.aload_n 0, 1) := dk_42 (dk_at dksL_law_17 13 rfl rfl)
theorem dL_law_554 : decode cL_law 554 = .ok (.iload 5, 2) := dk_21 5 (dk_at dksL_law_17 14 rfl rfl)
theorem dL_law_556 : decode cL_law 556 = .ok (.iconst 1, 1) := dk_4 (dk_at dksL_law_17 16 rfl rfl)
theorem dL_law_557 : decode cL_law 557 = .ok (.iadd, 1) := dk_96 (dk_at dksL_law_17 17 rfl rfl)
theorem dL_law_558 : decode cL_law 558 = .ok (.iaload, 1) := dk_46 (dk_at dksL_law_17 18 rfl rfl)
theorem dL_law_559 : decode cL_law 559 = .ok (.aload_n 0, 1) := dk_42 (dk_at dksL_law_17 19 rfl rfl)
theorem dL_law_560 : decode cL_law 560 = .ok (.iload 5, 2) := dk_21 5 (dk_at dksL_law_17 20 rfl rfl)
theorem dL_law_562 : decode cL_law 562 = .ok (.iconst 2, 1) := dk_5 (dk_at dksL_law_17 22 rfl rfl)
theorem dL_law_563 : decode cL_law 563 = .ok (.iadd, 1) := dk_96 (dk_at dksL_law_17 23 rfl rfl)
theorem dL_law_564 : decode cL_law 564 = .ok (.iaload, 1) := dk_46 (dk_at dksL_law_18 0 rfl rfl)
theorem dL_law_565 : decode cL_law 565 = .ok (.aload_n 3, 1) := dk_45 (dk_at dksL_law_18 1 rfl rfl)
theorem dL_law_566 : decode cL_law 566 = .ok (.invokestatic 161, 3) := dk_184 0 161 (dk_at dksL_law_18 2 rfl rfl)
theorem dL_law_569 : decode cL_law 569 = .ok (.istore 6, 2) := dk_54 6 (dk_at dksL_law_18 5 rfl rfl)
theorem dL_law_571 : decode cL_law 571 = .ok (.aload_n 2, 1) := dk_44 (dk_at dksL_law_18 7 rfl rfl)
theorem dL_law_572 : decode cL_law 572 = .ok (.aload_n 0, 1) := dk_42 (dk_at dksL_law_18 8 rfl rfl)
theorem dL_law_573 : decode cL_law 573 = .ok (.iload 5, 2) := dk_21 5 (dk_at dksL_law_18 9 rfl rfl)
theorem dL_law_575 : decode cL_law 575 = .ok (.iconst 1, 1) := dk_4 (dk_at dksL_law_18 11 rfl rfl)
theorem dL_law_576 : decode cL_law 576 = .ok (.iadd, 1) := dk_96 (dk_at dksL_law_18 12 rfl rfl)
theorem dL_law_577 : decode cL_law 577 = .ok (.iaload, 1) := dk_46 (dk_at dksL_law_18 13 rfl rfl)
theorem dL_law_578 : decode cL_law 578 = .ok (.aload_n 0, 1) := dk_42 (dk_at dksL_law_18 14 rfl rfl)
theorem dL_law_579 : decode cL_law 579 = .ok (.iload 5, 2) := dk_21 5 (dk_at dksL_law_18 15 rfl rfl)
theorem dL_law_581 : decode cL_law 581 = .ok (.iconst 2, 1) := dk_5 (dk_at dksL_law_18 17 rfl rfl)
theorem dL_law_582 : decode cL_law 582 = .ok (.iadd, 1) := dk_96 (dk_at dksL_law_18 18 rfl rfl)
theorem dL_law_583 : decode cL_law 583 = .ok (.iaload, 1) := dk_46 (dk_at dksL_law_18 19 rfl rfl)
theorem dL_law_584 : decode cL_law 584 = .ok (.invokevirtual 163, 3) := dk_182 0 163 (dk_at dksL_law_18 20 rfl rfl)
theorem dL_law_587 : decode cL_law 587 = .ok (.istore 7, 2) := dk_54 7 (dk_at dksL_law_19 0 rfl rfl)
theorem dL_law_589 : decode cL_law 589 = .ok (.aload_n 2, 1) := dk_44 (dk_at dksL_law_19 2 rfl rfl)
theorem dL_law_590 : decode cL_law 590 = .ok (.invokevirtual 144, 3) := dk_182 0 144 (dk_at dksL_law_19 3 rfl rfl)
theorem dL_law_593 : decode cL_law 593 = .ok (.iload 6, 2) := dk_21 6 (dk_at dksL_law_19 6 rfl rfl)
theorem dL_law_595 : decode cL_law 595 = .ok (.if_icmp .eq 5, 3) := dk_159 0 5 (dk_at dksL_law_19 8 rfl rfl)
theorem dL_law_598 : decode cL_law 598 = .ok (.iconst 0, 1) := dk_3 (dk_at dksL_law_19 11 rfl rfl)
theorem dL_law_599 : decode cL_law 599 = .ok (.ireturn, 1) := dk_172 (dk_at dksL_law_19 12 rfl rfl)
theorem dL_law_600 : decode cL_law 600 = .ok (.iload 6, 2) := dk_21 6 (dk_at dksL_law_19 13 rfl rfl)
theorem dL_law_602 : decode cL_law 602 = .ok (.ifCond .ne 15, 3) := dk_154 0 15 (dk_at dksL_law_19 15 rfl rfl)
theorem dL_law_605 : decode cL_law 605 = .ok (.aload_n 3, 1) := dk_45 (dk_at dksL_law_19 18 rfl rfl)
theorem dL_law_606 : decode cL_law 606 = .ok (.iconst 0, 1) := dk_3 (dk_at dksL_law_19 19 rfl rfl)
theorem dL_law_607 : decode cL_law 607 = .ok (.laload, 1) := dk_47 (dk_at dksL_law_19 20 rfl rfl)
theorem dL_law_608 : decode cL_law 608 = .ok (.iload 7, 2) := dk_21 7 (dk_at dksL_law_19 21 rfl rfl)
theorem dL_law_610 : decode cL_law 610 = .ok (.i2l, 1) := dk_133 (dk_at dksL_law_19 23 rfl rfl)
theorem dL_law_611 : decode cL_law 611 = .ok (.lcmp, 1) := dk_148 (dk_at dksL_law_20 0 rfl rfl)
theorem dL_law_612 : decode cL_law 612 = .ok (.ifCond .eq 5, 3) := dk_153 0 5 (dk_at dksL_law_20 1 rfl rfl)
theorem dL_law_615 : decode cL_law 615 = .ok (.iconst 0, 1) := dk_3 (dk_at dksL_law_20 4 rfl rfl)
theorem dL_law_616 : decode cL_law 616 = .ok (.ireturn, 1) := dk_172 (dk_at dksL_law_20 5 rfl rfl)
theorem dL_law_617 : decode cL_law 617 = .ok (.goto 1840, 3) := dk_167 7 48 (dk_at dksL_law_20 6 rfl rfl)
theorem dL_law_620 : decode cL_law 620 = .ok (.aload_n 1, 1) := dk_43 (dk_at dksL_law_20 9 rfl rfl)
theorem dL_law_621 : decode cL_law 621 = .ok (.aload_n 0, 1) := dk_42 (dk_at dksL_law_20 10 rfl rfl)
theorem dL_law_622 : decode cL_law 622 = .ok (.iload 5, 2) := dk_21 5 (dk_at dksL_law_20 11 rfl rfl)
theorem dL_law_624 : decode cL_law 624 = .ok (.iconst 1, 1) := dk_4 (dk_at dksL_law_20 13 rfl rfl)
theorem dL_law_625 : decode cL_law 625 = .ok (.iadd, 1) := dk_96 (dk_at dksL_law_20 14 rfl rfl)
theorem dL_law_626 : decode cL_law 626 = .ok (.iaload, 1) := dk_46 (dk_at dksL_law_20 15 rfl rfl)
theorem dL_law_627 : decode cL_law 627 = .ok (.aload_n 0, 1) := dk_42 (dk_at dksL_law_20 16 rfl rfl)
theorem dL_law_628 : decode cL_law 628 = .ok (.iload 5, 2) := dk_21 5 (dk_at dksL_law_20 17 rfl rfl)
theorem dL_law_630 : decode cL_law 630 = .ok (.iconst 2, 1) := dk_5 (dk_at dksL_law_20 19 rfl rfl)
theorem dL_law_631 : decode cL_law 631 = .ok (.iadd, 1) := dk_96 (dk_at dksL_law_20 20 rfl rfl)
theorem dL_law_632 : decode cL_law 632 = .ok (.iaload, 1) := dk_46 (dk_at dksL_law_20 21 rfl rfl)
theorem dL_law_633 : decode cL_law 633 = .ok (.aload_n 3, 1) := dk_45 (dk_at dksL_law_20 22 rfl rfl)
theorem dL_law_634 : decode cL_law 634 = .ok (.invokestatic 164, 3) := dk_184 0 164 (dk_at dksL_law_21 0 rfl rfl)
theorem dL_law_637 : decode cL_law 637 = .ok (.istore 6, 2) := dk_54 6 (dk_at dksL_law_21 3 rfl rfl)
theorem dL_law_639 : decode cL_law 639 = .ok (.aload_n 2, 1) := dk_44 (dk_at dksL_law_21 5 rfl rfl)
theorem dL_law_640 : decode cL_law 640 = .ok (.aload_n 0, 1) := dk_42 (dk_at dksL_law_21 6 rfl rfl)
theorem dL_law_641 : decode cL_law 641 = .ok (.iload 5, 2) := dk_21 5 (dk_at dksL_law_21 7 rfl rfl)
theorem dL_law_643 : decode cL_law 643 = .ok (.iconst 1, 1) := dk_4 (dk_at dksL_law_21 9 rfl rfl)
theorem dL_law_644 : decode cL_law 644 = .ok (.iadd, 1) := dk_96 (dk_at dksL_law_21 10 rfl rfl)
theorem dL_law_645 : decode cL_law 645 = .ok (.iaload, 1) := dk_46 (dk_at dksL_law_21 11 rfl rfl)
theorem dL_law_646 : decode cL_law 646 = .ok (.aload_n 0, 1) := dk_42 (dk_at dksL_law_21 12 rfl rfl)
theorem dL_law_647 : decode cL_law 647 = .ok (.iload 5, 2) := dk_21 5 (dk_at dksL_law_21 13 rfl rfl)
theorem dL_law_649 : decode cL_law 649 = .ok (.iconst 2, 1) := dk_5 (dk_at dksL_law_21 15 rfl rfl)
theorem dL_law_650 : decode cL_law 650 = .ok (.iadd, 1) := dk_96 (dk_at dksL_law_21 16 rfl rfl)
theorem dL_law_651 : decode cL_law 651 = .ok (.iaload, 1) := dk_46 (dk_at dksL_law_21 17 rfl rfl)
theorem dL_law_652 : decode cL_law 652 = .ok (.invokevirtual 166, 3) := dk_182 0 166 (dk_at dksL_law_21 18 rfl rfl)
theorem dL_law_655 : decode cL_law 655 = .ok (.istore 7, 2) := dk_54 7 (dk_at dksL_law_21 21 rfl rfl)
theorem dL_law_657 : decode cL_law 657 = .ok (.aload_n 2, 1) := dk_44 (dk_at dksL_law_21 23 rfl rfl)
theorem dL_law_658 : decode cL_law 658 = .ok (.invokevirtual 144, 3) := dk_182 0 144 (dk_at dksL_law_22 0 rfl rfl)
theorem dL_law_661 : decode cL_law 661 = .ok (.iload 6, 2) := dk_21 6 (dk_at dksL_law_22 3 rfl rfl)
theorem dL_law_663 : decode cL_law 663 = .ok (.if_icmp .eq 5, 3) := dk_159 0 5 (dk_at dksL_law_22 5 rfl rfl)
theorem dL_law_666 : decode cL_law 666 = .ok (.iconst 0, 1) := dk_3 (dk_at dksL_law_22 8 rfl rfl)
theorem dL_law_667 : decode cL_law 667 = .ok (.ireturn, 1) := dk_172 (dk_at dksL_law_22 9 rfl rfl)
theorem dL_law_668 : decode cL_law 668 = .ok (.iload 6, 2) := dk_21 6 (dk_at dksL_law_22 10 rfl rfl)
theorem dL_law_670 : decode cL_law 670 = .ok (.ifCond .ne 15, 3) := dk_154 0 15 (dk_at dksL_law_22 12 rfl rfl)
theorem dL_law_673 : decode cL_law 673 = .ok (.aload_n 3, 1) := dk_45 (dk_at dksL_law_22 15 rfl rfl)
theorem dL_law_674 : decode cL_law 674 = .ok (.iconst 0, 1) := dk_3 (dk_at dksL_law_22 16 rfl rfl)
theorem dL_law_675 : decode cL_law 675 = .ok (.laload, 1) := dk_47 (dk_at dksL_law_22 17 rfl rfl)
theorem dL_law_676 : decode cL_law 676 = .ok (.iload 7, 2) := dk_21 7 (dk_at dksL_law_22 18 rfl rfl)
theorem dL_law_678 : decode cL_law 678 = .ok (.i2l, 1) := dk_133 (dk_at dksL_law_22 20 rfl rfl)
theorem dL_law_679 : decode cL_law 679 = .ok (.lcmp, 1) := dk_148 (dk_at dksL_law_22 21 rfl rfl)
theorem dL_law_680 : decode cL_law 680 = .ok (.ifCond .eq 5, 3) := dk_153 0 5 (dk_at dksL_law_23 0 rfl rfl)
theorem dL_law_683 : decode cL_law 683 = .ok (.iconst 0, 1) := dk_3 (dk_at dksL_law_23 3 rfl rfl)
theorem dL_law_684 : decode cL_law 684 = .ok (.ireturn, 1) := dk_172 (dk_at dksL_law_23 4 rfl rfl)
theorem dL_law_685 : decode cL_law 685 = .ok (.goto 1772, 3) := dk_167 6 236 (dk_at dksL_law_23 5 rfl rfl)
theorem dL_law_688 : decode cL_law 688 = .ok (.aload_n 1, 1) := dk_43 (dk_at dksL_law_23 8 rfl rfl)
theorem dL_law_689 : decode cL_law 689 = .ok (.aload_n 0, 1) := dk_42 (dk_at dksL_law_23 9 rfl rfl)
theorem dL_law_690 : decode cL_law 690 = .ok (.iload 5, 2) := dk_21 5 (dk_at dksL_law_23 10 rfl rfl)
theorem dL_law_692 : decode cL_law 692 = .ok (.iconst 1, 1) := dk_4 (dk_at dksL_law_23 12 rfl rfl)
theorem dL_law_693 : decode cL_law 693 = .ok (.iadd, 1) := dk_96 (dk_at dksL_law_23 13 rfl rfl)
theorem dL_law_694 : decode cL_law 694 = .ok (.iaload, 1) := dk_46 (dk_at dksL_law_23 14 rfl rfl)
theorem dL_law_695 : decode cL_law 695 = .ok (.aload_n 0, 1) := dk_42 (dk_at dksL_law_23 15 rfl rfl)
theorem dL_law_696 : decode cL_law 696 = .ok (.iload 5, 2) := dk_21 5 (dk_at dksL_law_23 16 rfl rfl)
theorem dL_law_698 : decode cL_law 698 = .ok (.iconst 2, 1) := dk_5 (dk_at dksL_law_23 18 rfl rfl)
theorem dL_law_699 : decode cL_law 699 = .ok (.iadd, 1) := dk_96 (dk_at dksL_law_23 19 rfl rfl)
theorem dL_law_700 : decode cL_law 700 = .ok (.iaload, 1) := dk_46 (dk_at dksL_law_23 20 rfl rfl)
theorem dL_law_701 : decode cL_law 701 = .ok (.aload_n 3, 1) := dk_45 (dk_at dksL_law_23 21 rfl rfl)
theorem dL_law_702 : decode cL_law 702 = .ok (.invokestatic 167, 3) := dk_184 0 167 (dk_at dksL_law_24 0 rfl rfl)
theorem dL_law_705 : decode cL_law 705 = .ok (.istore 6, 2) := dk_54 6 (dk_at dksL_law_24 3 rfl rfl)
theorem dL_law_707 : decode cL_law 707 = .ok (.aload_n 2, 1) := dk_44 (dk_at dksL_law_24 5 rfl rfl)
theorem dL_law_708 : decode cL_law 708 = .ok (.aload_n 0, 1) := dk_42 (dk_at dksL_law_24 6 rfl rfl)
theorem dL_law_709 : decode cL_law 709 = .ok (.iload 5, 2) := dk_21 5 (dk_at dksL_law_24 7 rfl rfl)
theorem dL_law_711 : decode cL_law 711 = .ok (.iconst 1, 1) := dk_4 (dk_at dksL_law_24 9 rfl rfl)
theorem dL_law_712 : decode cL_law 712 = .ok (.iadd, 1) := dk_96 (dk_at dksL_law_24 10 rfl rfl)
theorem dL_law_713 : decode cL_law 713 = .ok (.iaload, 1) := dk_46 (dk_at dksL_law_24 11 rfl rfl)
theorem dL_law_714 : decode cL_law 714 = .ok (.aload_n 0, 1) := dk_42 (dk_at dksL_law_24 12 rfl rfl)
theorem dL_law_715 : decode cL_law 715 = .ok (.iload 5, 2) := dk_21 5 (dk_at dksL_law_24 13 rfl rfl)
theorem dL_law_717 : decode cL_law 717 = .ok (.iconst 2, 1) := dk_5 (dk_at dksL_law_24 15 rfl rfl)
theorem dL_law_718 : decode cL_law 718 = .ok (.iadd, 1) := dk_96 (dk_at dksL_law_24 16 rfl rfl)
theorem dL_law_719 : decode cL_law 719 = .ok (.iaload, 1) := dk_46 (dk_at dksL_law_24 17 rfl rfl)
theorem dL_law_720 : decode cL_law 720 = .ok (.invokevirtual 169, 3) := dk_182 0 169 (dk_at dksL_law_24 18 rfl rfl)
theorem dL_law_723 : decode cL_law 723 = .ok (.istore 7, 2) := dk_54 7 (dk_at dksL_law_24 21 rfl rfl)
theorem dL_law_725 : decode cL_law 725 = .ok (.aload_n 2, 1) := dk_44 (dk_at dksL_law_24 23 rfl rfl)
theorem dL_law_726 : decode cL_law 726 = .ok (.invokevirtual 144, 3) := dk_182 0 144 (dk_at dksL_law_25 0 rfl rfl)
theorem dL_law_729 : decode cL_law 729 = .ok (.iload 6, 2) := dk_21 6 (dk_at dksL_law_25 3 rfl rfl)
theorem dL_law_731 : decode cL_law 731 = .ok (.if_icmp .eq 5, 3) := dk_159 0 5 (dk_at dksL_law_25 5 rfl rfl)
theorem dL_law_734 : decode cL_law 734 = .ok (.iconst 0, 1) := dk_3 (dk_at dksL_law_25 8 rfl rfl)
theorem dL_law_735 : decode cL_law 735 = .ok (.ireturn, 1) := dk_172 (dk_at dksL_law_25 9 rfl rfl)
theorem dL_law_736 : decode cL_law 736 = .ok (.iload 6, 2) := dk_21 6 (dk_at dksL_law_25 10 rfl rfl)
theorem dL_law_738 : decode cL_law 738 = .ok (.ifCond .ne 15, 3) := dk_154 0 15 (dk_at dksL_law_25 12 rfl rfl)
theorem dL_law_741 : decode cL_law 741 = .ok (.aload_n 3, 1) := dk_45 (dk_at dksL_law_25 15 rfl rfl)
theorem dL_law_742 : decode cL_law 742 = .ok (.iconst 0, 1) := dk_3 (dk_at dksL_law_25 16 rfl rfl)
theorem dL_law_743 : decode cL_law 743 = .ok (.laload, 1) := dk_47 (dk_at dksL_law_25 17 rfl rfl)
theorem dL_law_744 : decode cL_law 744 = .ok (.iload 7, 2) := dk_21 7 (dk_at dksL_law_25 18 rfl rfl)
theorem dL_law_746 : decode cL_law 746 = .ok (.i2l, 1) := dk_133 (dk_at dksL_law_25 20 rfl rfl)
theorem dL_law_747 : decode cL_law 747 = .ok (.lcmp, 1) := dk_148 (dk_at dksL_law_25 21 rfl rfl)
theorem dL_law_748 : decode cL_law 748 = .ok (.ifCond .eq 5, 3) := dk_153 0 5 (dk_at dksL_law_26 0 rfl rfl)
theorem dL_law_751 : decode cL_law 751 = .ok (.iconst 0, 1) := dk_3 (dk_at dksL_law_26 3 rfl rfl)
theorem dL_law_752 : decode cL_law 752 = .ok (.ireturn, 1) := dk_172 (dk_at dksL_law_26 4 rfl rfl)
theorem dL_law_753 : decode cL_law 753 = .ok (.goto 1704, 3) := dk_167 6 168 (dk_at dksL_law_26 5 rfl rfl)
theorem dL_law_756 : decode cL_law 756 = .ok (.aload_n 1, 1) := dk_43 (dk_at dksL_law_26 8 rfl rfl)
theorem dL_law_757 : decode cL_law 757 = .ok (.aload_n 0, 1) := dk_42 (dk_at dksL_law_26 9 rfl rfl)
theorem dL_law_758 : decode cL_law 758 = .ok (.iload 5, 2) := dk_21 5 (dk_at dksL_law_26 10 rfl rfl)
theorem dL_law_760 : decode cL_law 760 = .ok (.iconst 1, 1) := dk_4 (dk_at dksL_law_26 12 rfl rfl)
theorem dL_law_761 : decode cL_law 761 = .ok (.iadd, 1) := dk_96 (dk_at dksL_law_26 13 rfl rfl)
theorem dL_law_762 : decode cL_law 762 = .ok (.iaload, 1) := dk_46 (dk_at dksL_law_26 14 rfl rfl)
theorem dL_law_763 : decode cL_law 763 = .ok (.aload_n 0, 1) := dk_42 (dk_at dksL_law_26 15 rfl rfl)
theorem dL_law_764 : decode cL_law 764 = .ok (.iload 5, 2) := dk_21 5 (dk_at dksL_law_26 16 rfl rfl)
theorem dL_law_766 : decode cL_law 766 = .ok (.iconst 2, 1) := dk_5 (dk_at dksL_law_26 18 rfl rfl)
theorem dL_law_767 : decode cL_law 767 = .ok (.iadd, 1) := dk_96 (dk_at dksL_law_26 19 rfl rfl)
theorem dL_law_768 : decode cL_law 768 = .ok (.iaload, 1) := dk_46 (dk_at dksL_law_26 20 rfl rfl)
theorem dL_law_769 : decode cL_law 769 = .ok (.aload_n 0, 1) := dk_42 (dk_at dksL_law_26 21 rfl rfl)
theorem dL_law_770 : decode cL_law 770 = .ok (.iload 5, 2) := dk_21 5 (dk_at dksL_law_26 22 rfl rfl)
theorem dL_law_772 : decode cL_law 772 = .ok (.iconst 3, 1) := dk_6 (dk_at dksL_law_27 0 rfl rfl)
theorem dL_law_773 : decode cL_law 773 = .ok (.iadd, 1) := dk_96 (dk_at dksL_law_27 1 rfl rfl)
theorem dL_law_774 : decode cL_law 774 = .ok (.iaload, 1) := dk_46 (dk_at dksL_law_27 2 rfl rfl)
theorem dL_law_775 : decode cL_law 775 = .ok (.aload_n 3, 1) := dk_45 (dk_at dksL_law_27 3 rfl rfl)
theorem dL_law_776 : decode cL_law 776 = .ok (.invokestatic 170, 3) := dk_184 0 170 (dk_at dksL_law_27 4 rfl rfl)
theorem dL_law_779 : decode cL_law 779 = .ok (.istore 6, 2) := dk_54 6 (dk_at dksL_law_27 7 rfl rfl)
theorem dL_law_781 : decode cL_law 781 = .ok (.aload_n 2, 1) := dk_44 (dk_at dksL_law_27 9 rfl rfl)
theorem dL_law_782 : decode cL_law 782 = .ok (.aload_n 0, 1) := dk_42 (dk_at dksL_law_27 10 rfl rfl)
theorem dL_law_783 : decode cL_law 783 = .ok (.iload 5, 2) := dk_21 5 (dk_at dksL_law_27 11 rfl rfl)
theorem dL_law_785 : decode cL_law 785 = .ok (.iconst 1, 1) := dk_4 (dk_at dksL_law_27 13 rfl rfl)
theorem dL_law_786 : decode cL_law 786 = .ok (.iadd, 1) := dk_96 (dk_at dksL_law_27 14 rfl rfl)
theorem dL_law_787 : decode cL_law 787 = .ok (.iaload, 1) := dk_46 (dk_at dksL_law_27 15 rfl rfl)
theorem dL_law_788 : decode cL_law 788 = .ok (.aload_n 0, 1) := dk_42 (dk_at dksL_law_27 16 rfl rfl)
theorem dL_law_789 : decode cL_law 789 = .ok (.iload 5, 2) := dk_21 5 (dk_at dksL_law_27 17 rfl rfl)
theorem dL_law_791 : decode cL_law 791 = .ok (.iconst 2, 1) := dk_5 (dk_at dksL_law_27 19 rfl rfl)
theorem dL_law_792 : decode cL_law 792 = .ok (.iadd, 1) := dk_96 (dk_at dksL_law_27 20 rfl rfl)
theorem dL_law_793 : decode cL_law 793 = .ok (.iaload, 1) := dk_46 (dk_at dksL_law_27 21 rfl rfl)
theorem dL_law_794 : decode cL_law 794 = .ok (.aload_n 0, 1) := dk_42 (dk_at dksL_law_27 22 rfl rfl)
theorem dL_law_795 : decode cL_law 795 = .ok (.iload 5, 2) := dk_21 5 (dk_at dksL_law_28 0 rfl rfl)
theorem dL_law_797 : decode cL_law 797 = .ok (.iconst 3, 1) := dk_6 (dk_at dksL_law_28 2 rfl rfl)
theorem dL_law_798 : decode cL_law 798 = .ok (.iadd, 1) := dk_96 (dk_at dksL_law_28 3 rfl rfl)
theorem dL_law_799 : decode cL_law 799 = .ok (.iaload, 1) := dk_46 (dk_at dksL_law_28 4 rfl rfl)
theorem dL_law_800 : decode cL_law 800 = .ok (.invokevirtual 173, 3) := dk_182 0 173 (dk_at dksL_law_28 5 rfl rfl)
theorem dL_law_803 : decode cL_law 803 = .ok (.istore 7, 2) := dk_54 7 (dk_at dksL_law_28 8 rfl rfl)
theorem dL_law_805 : decode cL_law 805 = .ok (.aload_n 2, 1) := dk_44 (dk_at dksL_law_28 10 rfl rfl)
theorem dL_law_806 : decode cL_law 806 = .ok (.invokevirtual 144, 3) := dk_182 0 144 (dk_at dksL_law_28 11 rfl rfl)
theorem dL_law_809 : decode cL_law 809 = .ok (.iload 6, 2) := dk_21 6 (dk_at dksL_law_28 14 rfl rfl)
theorem dL_law_811 : decode cL_law 811 = .ok (.if_icmp .eq 5, 3) := dk_159 0 5 (dk_at dksL_law_28 16 rfl rfl)
theorem dL_law_814 : decode cL_law 814 = .ok (.iconst 0, 1) := dk_3 (dk_at dksL_law_28 19 rfl rfl)
theorem dL_law_815 : decode cL_law 815 = .ok (.ireturn, 1) := dk_172 (dk_at dksL_law_28 20 rfl rfl)
theorem dL_law_816 : decode cL_law 816 = .ok (.iload 6, 2) := dk_21 6 (dk_at dksL_law_28 21 rfl rfl)
theorem dL_law_818 : decode cL_law 818 = .ok (.ifCond .ne 15, 3) := dk_154 0 15 (dk_at dksL_law_29 0 rfl rfl)
theorem dL_law_821 : decode cL_law 821 = .ok (.aload_n 3, 1) := dk_45 (dk_at dksL_law_29 3 rfl rfl)
theorem dL_law_822 : decode cL_law 822 = .ok (.iconst 0, 1) := dk_3 (dk_at dksL_law_29 4 rfl rfl)
theorem dL_law_823 : decode cL_law 823 = .ok (.laload, 1) := dk_47 (dk_at dksL_law_29 5 rfl rfl)
theorem dL_law_824 : decode cL_law 824 = .ok (.iload 7, 2) := dk_21 7 (dk_at dksL_law_29 6 rfl rfl)
theorem dL_law_826 : decode cL_law 826 = .ok (.i2l, 1) := dk_133 (dk_at dksL_law_29 8 rfl rfl)
theorem dL_law_827 : decode cL_law 827 = .ok (.lcmp, 1) := dk_148 (dk_at dksL_law_29 9 rfl rfl)
theorem dL_law_828 : decode cL_law 828 = .ok (.ifCond .eq 5, 3) := dk_153 0 5 (dk_at dksL_law_29 10 rfl rfl)
theorem dL_law_831 : decode cL_law 831 = .ok (.iconst 0, 1) := dk_3 (dk_at dksL_law_29 13 rfl rfl)
theorem dL_law_832 : decode cL_law 832 = .ok (.ireturn, 1) := dk_172 (dk_at dksL_law_29 14 rfl rfl)
theorem dL_law_833 : decode cL_law 833 = .ok (.goto 1624, 3) := dk_167 6 88 (dk_at dksL_law_29 15 rfl rfl)
theorem dL_law_836 : decode cL_law 836 = .ok (.aload_n 1, 1) := dk_43 (dk_at dksL_law_29 18 rfl rfl)
theorem dL_law_837 : decode cL_law 837 = .ok (.aload_n 0, 1) := dk_42 (dk_at dksL_law_29 19 rfl rfl)
theorem dL_law_838 : decode cL_law 838 = .ok (.iload 5, 2) := dk_21 5 (dk_at dksL_law_29 20 rfl rfl)
theorem dL_law_840 : decode cL_law 840 = .ok (.iconst 1, 1) := dk_4 (dk_at dksL_law_29 22 rfl rfl)
theorem dL_law_841 : decode cL_law 841 = .ok (.iadd, 1) := dk_96 (dk_at dksL_law_29 23 rfl rfl)
theorem dL_law_842 : decode cL_law 842 = .ok (.iaload, 1) := dk_46 (dk_at dksL_law_30 0 rfl rfl)
theorem dL_law_843 : decode cL_law 843 = .ok (.aload_n 3, 1) := dk_45 (dk_at dksL_law_30 1 rfl rfl)
theorem dL_law_844 : decode cL_law 844 = .ok (.invokestatic 174, 3) := dk_184 0 174 (dk_at dksL_law_30 2 rfl rfl)
theorem dL_law_847 : decode cL_law 847 = .ok (.istore 6, 2) := dk_54 6 (dk_at dksL_law_30 5 rfl rfl)
theorem dL_law_849 : decode cL_law 849 = .ok (.aload_n 2, 1) := dk_44 (dk_at dksL_law_30 7 rfl rfl)
theorem dL_law_850 : decode cL_law 850 = .ok (.aload_n 0, 1) := dk_42 (dk_at dksL_law_30 8 rfl rfl)
theorem dL_law_851 : decode cL_law 851 = .ok (.iload 5, 2) := dk_21 5 (dk_at dksL_law_30 9 rfl rfl)
theorem dL_law_853 : decode cL_law 853 = .ok (.iconst 1, 1) := dk_4 (dk_at dksL_law_30 11 rfl rfl)
theorem dL_law_854 : decode cL_law 854 = .ok (.iadd, 1) := dk_96 (dk_at dksL_law_30 12 rfl rfl)
theorem dL_law_855 : decode cL_law 855 = .ok (.iaload, 1) := dk_46 (dk_at dksL_law_30 13 rfl rfl)
theorem dL_law_856 : decode cL_law 856 = .ok (.invokevirtual 176, 3) := dk_182 0 176 (dk_at dksL_law_30 14 rfl rfl)
theorem dL_law_859 : decode cL_law 859 = .ok (.istore 7, 2) := dk_54 7 (dk_at dksL_law_30 17 rfl rfl)
theorem dL_law_861 : decode cL_law 861 = .ok (.aload_n 2, 1) := dk_44 (dk_at dksL_law_30 19 rfl rfl)
theorem dL_law_862 : decode cL_law 862 = .ok (.invokevirtual 144, 3) := dk_182 0 144 (dk_at dksL_law_30 20 rfl rfl)
theorem dL_law_865 : decode cL_law 865 = .ok (.iload 6, 2) := dk_21 6 (dk_at dksL_law_31 0 rfl rfl)
theorem dL_law_867 : decode cL_law 867 = .ok (.if_icmp .eq 5, 3) := dk_159 0 5 (dk_at dksL_law_31 2 rfl rfl)
theorem dL_law_870 : decode cL_law 870 = .ok (.iconst 0, 1) := dk_3 (dk_at dksL_law_31 5 rfl rfl)
theorem dL_law_871 : decode cL_law 871 = .ok (.ireturn, 1) := dk_172 (dk_at dksL_law_31 6 rfl rfl)
theorem dL_law_872 : decode cL_law 872 = .ok (.iload 6, 2) := dk_21 6 (dk_at dksL_law_31 7 rfl rfl)
theorem dL_law_874 : decode cL_law 874 = .ok (.ifCond .ne 15, 3) := dk_154 0 15 (dk_at dksL_law_31 9 rfl rfl)
theorem dL_law_877 : decode cL_law 877 = .ok (.aload_n 3, 1) := dk_45 (dk_at dksL_law_31 12 rfl rfl)
theorem dL_law_878 : decode cL_law 878 = .ok (.iconst 0, 1) := dk_3 (dk_at dksL_law_31 13 rfl rfl)
theorem dL_law_879 : decode cL_law 879 = .ok (.laload, 1) := dk_47 (dk_at dksL_law_31 14 rfl rfl)
theorem dL_law_880 : decode cL_law 880 = .ok (.iload 7, 2) := dk_21 7 (dk_at dksL_law_31 15 rfl rfl)
theorem dL_law_882 : decode cL_law 882 = .ok (.i2l, 1) := dk_133 (dk_at dksL_law_31 17 rfl rfl)
theorem dL_law_883 : decode cL_law 883 = .ok (.lcmp, 1) := dk_148 (dk_at dksL_law_31 18 rfl rfl)
theorem dL_law_884 : decode cL_law 884 = .ok (.ifCond .eq 5, 3) := dk_153 0 5 (dk_at dksL_law_31 19 rfl rfl)
theorem dL_law_887 : decode cL_law 887 = .ok (.iconst 0, 1) := dk_3 (dk_at dksL_law_31 22 rfl rfl)
theorem dL_law_888 : decode cL_law 888 = .ok (.ireturn, 1) := dk_172 (dk_at dksL_law_31 23 rfl rfl)
theorem dL_law_889 : decode cL_law 889 = .ok (.goto 1568, 3) := dk_167 6 32 (dk_at dksL_law_32 0 rfl rfl)
theorem dL_law_892 : decode cL_law 892 = .ok (.aload_n 1, 1) := dk_43 (dk_at dksL_law_32 3 rfl rfl)
theorem dL_law_893 : decode cL_law 893 = .ok (.aload_n 0, 1) := dk_42 (dk_at dksL_law_32 4 rfl rfl)
theorem dL_law_894 : decode cL_law 894 = .ok (.iload 5, 2) := dk_21 5 (dk_at dksL_law_32 5 rfl rfl)
theorem dL_law_896 : decode cL_law 896 = .ok (.iconst 1, 1) := dk_4 (dk_at dksL_law_32 7 rfl rfl)
theorem dL_law_897 : decode cL_law 897 = .ok (.iadd, 1) := dk_96 (dk_at dksL_law_32 8 rfl rfl)
theorem dL_law_898 : decode cL_law 898 = .ok (.iaload, 1) := dk_46 (dk_at dksL_law_32 9 rfl rfl)
theorem dL_law_899 : decode cL_law 899 = .ok (.aload_n 0, 1) := dk_42 (dk_at dksL_law_32 10 rfl rfl)
theorem dL_law_900 : decode cL_law 900 = .ok (.iload 5, 2) := dk_21 5 (dk_at dksL_law_32 11 rfl rfl)
theorem dL_law_902 : decode cL_law 902 = .ok (.iconst 2, 1) := dk_5 (dk_at dksL_law_32 13 rfl rfl)
theorem dL_law_903 : decode cL_law 903 = .ok (.iadd, 1) := dk_96 (dk_at dksL_law_32 14 rfl rfl)
theorem dL_law_904 : decode cL_law 904 = .ok (.iaload, 1) := dk_46 (dk_at dksL_law_32 15 rfl rfl)
theorem dL_law_905 : decode cL_law 905 = .ok (.aload_n 3, 1) := dk_45 (dk_at dksL_law_32 16 rfl rfl)
theorem dL_law_906 : decode cL_law 906 = .ok (.invokestatic 177, 3) := dk_184 0 177 (dk_at dksL_law_32 17 rfl rfl)
theorem dL_law_909 : decode cL_law 909 = .ok (.istore 6, 2) := dk_54 6 (dk_at dksL_law_32 20 rfl rfl)
theorem dL_law_911 : decode cL_law 911 = .ok (.aload_n 2, 1) := dk_44 (dk_at dksL_law_32 22 rfl rfl)
theorem dL_law_912 : decode cL_law 912 = .ok (.aload_n 0, 1) := dk_42 (dk_at dksL_law_32 23 rfl rfl)
theorem dL_law_913 : decode cL_law 913 = .ok (.iload 5, 2) := dk_21 5 (dk_at dksL_law_33 0 rfl rfl)
theorem dL_law_915 : decode cL_law 915 = .ok (.iconst 1, 1) := dk_4 (dk_at dksL_law_33 2 rfl rfl)
theorem dL_law_916 : decode cL_law 916 = .ok (.iadd, 1) := dk_96 (dk_at dksL_law_33 3 rfl rfl)
theorem dL_law_917 : decode cL_law 917 = .ok (.iaload, 1) := dk_46 (dk_at dksL_law_33 4 rfl rfl)
theorem dL_law_918 : decode cL_law 918 = .ok (.aload_n 0, 1) := dk_42 (dk_at dksL_law_33 5 rfl rfl)
theorem dL_law_919 : decode cL_law 919 = .ok (.iload 5, 2) := dk_21 5 (dk_at dksL_law_33 6 rfl rfl)
theorem dL_law_921 : decode cL_law 921 = .ok (.iconst 2, 1) := dk_5 (dk_at dksL_law_33 8 rfl rfl)
theorem dL_law_922 : decode cL_law 922 = .ok (.iadd, 1) := dk_96 (dk_at dksL_law_33 9 rfl rfl)
theorem dL_law_923 : decode cL_law 923 = .ok (.iaload, 1) := dk_46 (dk_at dksL_law_33 10 rfl rfl)
theorem dL_law_924 : decode cL_law 924 = .ok (.invokevirtual 179, 3) := dk_182 0 179 (dk_at dksL_law_33 11 rfl rfl)
theorem dL_law_927 : decode cL_law 927 = .ok (.istore 7, 2) := dk_54 7 (dk_at dksL_law_33 14 rfl rfl)
theorem dL_law_929 : decode cL_law 929 = .ok (.aload_n 2, 1) := dk_44 (dk_at dksL_law_33 16 rfl rfl)
theorem dL_law_930 : decode cL_law 930 = .ok (.invokevirtual 144, 3) := dk_182 0 144 (dk_at dksL_law_33 17 rfl rfl)
theorem dL_law_933 : decode cL_law 933 = .ok (.iload 6, 2) := dk_21 6 (dk_at dksL_law_33 20 rfl rfl)
theorem dL_law_935 : decode cL_law 935 = .ok (.if_icmp .eq 5, 3) := dk_159 0 5 (dk_at dksL_law_34 0 rfl rfl)
theorem dL_law_938 : decode cL_law 938 = .ok (.iconst 0, 1) := dk_3 (dk_at dksL_law_34 3 rfl rfl)
theorem dL_law_939 : decode cL_law 939 = .ok (.ireturn, 1) := dk_172 (dk_at dksL_law_34 4 rfl rfl)
theorem dL_law_940 : decode cL_law 940 = .ok (.iload 6, 2) := dk_21 6 (dk_at dksL_law_34 5 rfl rfl)
theorem dL_law_942 : decode cL_law 942 = .ok (.ifCond .ne 15, 3) := dk_154 0 15 (dk_at dksL_law_34 7 rfl rfl)
theorem dL_law_945 : decode cL_law 945 = .ok (.aload_n 3, 1) := dk_45 (dk_at dksL_law_34 10 rfl rfl)
theorem dL_law_946 : decode cL_law 946 = .ok (.iconst 0, 1) := dk_3 (dk_at dksL_law_34 11 rfl rfl)
theorem dL_law_947 : decode cL_law 947 = .ok (.laload, 1) := dk_47 (dk_at dksL_law_34 12 rfl rfl)
theorem dL_law_948 : decode cL_law 948 = .ok (.iload 7, 2) := dk_21 7 (dk_at dksL_law_34 13 rfl rfl)
theorem dL_law_950 : decode cL_law 950 = .ok (.i2l, 1) := dk_133 (dk_at dksL_law_34 15 rfl rfl)
theorem dL_law_951 : decode cL_law 951 = .ok (.lcmp, 1) := dk_148 (dk_at dksL_law_34 16 rfl rfl)
theorem dL_law_952 : decode cL_law 952 = .ok (.ifCond .eq 5, 3) := dk_153 0 5 (dk_at dksL_law_34 17 rfl rfl)
theorem dL_law_955 : decode cL_law 955 = .ok (.iconst 0, 1) := dk_3 (dk_at dksL_law_34 20 rfl rfl)
theorem dL_law_956 : decode cL_law 956 = .ok (.ireturn, 1) := dk_172 (dk_at dksL_law_34 21 rfl rfl)
theorem dL_law_957 : decode cL_law 957 = .ok (.goto 1500, 3) := dk_167 5 220 (dk_at dksL_law_35 0 rfl rfl)
theorem dL_law_960 : decode cL_law 960 = .ok (.aload_n 1, 1) := dk_43 (dk_at dksL_law_35 3 rfl rfl)
theorem dL_law_961 : decode cL_law 961 = .ok (.aload_n 0, 1) := dk_42 (dk_at dksL_law_35 4 rfl rfl)
theorem dL_law_962 : decode cL_law 962 = .ok (.iload 5, 2) := dk_21 5 (dk_at dksL_law_35 5 rfl rfl)
theorem dL_law_964 : decode cL_law 964 = .ok (.iconst 1, 1) := dk_4 (dk_at dksL_law_35 7 rfl rfl)
theorem dL_law_965 : decode cL_law 965 = .ok (.iadd, 1) := dk_96 (dk_at dksL_law_35 8 rfl rfl)
theorem dL_law_966 : decode cL_law 966 = .ok (.iaload, 1) := dk_46 (dk_at dksL_law_35 9 rfl rfl)
theorem dL_law_967 : decode cL_law 967 = .ok (.aload_n 3, 1) := dk_45 (dk_at dksL_law_35 10 rfl rfl)
theorem dL_law_968 : decode cL_law 968 = .ok (.invokestatic 180, 3) := dk_184 0 180 (dk_at dksL_law_35 11 rfl rfl)
theorem dL_law_971 : decode cL_law 971 = .ok (.istore 6, 2) := dk_54 6 (dk_at dksL_law_35 14 rfl rfl)
theorem dL_law_973 : decode cL_law 973 = .ok (.aload_n 2, 1) := dk_44 (dk_at dksL_law_35 16 rfl rfl)
theorem dL_law_974 : decode cL_law 974 = .ok (.aload_n 0, 1) := dk_42 (dk_at dksL_law_35 17 rfl rfl)
theorem dL_law_975 : decode cL_law 975 = .ok (.iload 5, 2) := dk_21 5 (dk_at dksL_law_35 18 rfl rfl)
theorem dL_law_977 : decode cL_law 977 = .ok (.iconst 1, 1) := dk_4 (dk_at dksL_law_35 20 rfl rfl)
theorem dL_law_978 : decode cL_law 978 = .ok (.iadd, 1) := dk_96 (dk_at dksL_law_35 21 rfl rfl)
theorem dL_law_979 : decode cL_law 979 = .ok (.iaload, 1) := dk_46 (dk_at dksL_law_35 22 rfl rfl)
theorem dL_law_980 : decode cL_law 980 = .ok (.invokevirtual 182, 3) := dk_182 0 182 (dk_at dksL_law_36 0 rfl rfl)
theorem dL_law_983 : decode cL_law 983 = .ok (.istore 7, 2) := dk_54 7 (dk_at dksL_law_36 3 rfl rfl)
theorem dL_law_985 : decode cL_law 985 = .ok (.aload_n 2, 1) := dk_44 (dk_at dksL_law_36 5 rfl rfl)
theorem dL_law_986 : decode cL_law 986 = .ok (.invokevirtual 144, 3) := dk_182 0 144 (dk_at dksL_law_36 6 rfl rfl)
theorem dL_law_989 : decode cL_law 989 = .ok (.iload 6, 2) := dk_21 6 (dk_at dksL_law_36 9 rfl rfl)
theorem dL_law_991 : decode cL_law 991 = .ok (.if_icmp .eq 5, 3) := dk_159 0 5 (dk_at dksL_law_36 11 rfl rfl)
theorem dL_law_994 : decode cL_law 994 = .ok (.iconst 0, 1) := dk_3 (dk_at dksL_law_36 14 rfl rfl)
theorem dL_law_995 : decode cL_law 995 = .ok (.ireturn, 1) := dk_172 (dk_at dksL_law_36 15 rfl rfl)
theorem dL_law_996 : decode cL_law 996 = .ok (.iload 6, 2) := dk_21 6 (dk_at dksL_law_36 16 rfl rfl)
theorem dL_law_998 : decode cL_law 998 = .ok (.ifCond .ne 15, 3) := dk_154 0 15 (dk_at dksL_law_36 18 rfl rfl)
theorem dL_law_1001 : decode cL_law 1001 = .ok (.aload_n 3, 1) := dk_45 (dk_at dksL_law_36 21 rfl rfl)
theorem dL_law_1002 : decode cL_law 1002 = .ok (.iconst 0, 1) := dk_3 (dk_at dksL_law_36 22 rfl rfl)
theorem dL_law_1003 : decode cL_law 1003 = .ok (.laload, 1) := dk_47 (dk_at dksL_law_36 23 rfl rfl)
theorem dL_law_1004 : decode cL_law 1004 = .ok (.iload 7, 2) := dk_21 7 (dk_at dksL_law_37 0 rfl rfl)
theorem dL_law_1006 : decode cL_law 1006 = .ok (.i2l, 1) := dk_133 (dk_at dksL_law_37 2 rfl rfl)
theorem dL_law_1007 : decode cL_law 1007 = .ok (.lcmp, 1) := dk_148 (dk_at dksL_law_37 3 rfl rfl)
theorem dL_law_1008 : decode cL_law 1008 = .ok (.ifCond .eq 5, 3) := dk_153 0 5 (dk_at dksL_law_37 4 rfl rfl)
theorem dL_law_1011 : decode cL_law 1011 = .ok (.iconst 0, 1) := dk_3 (dk_at dksL_law_37 7 rfl rfl)
theorem dL_law_1012 : decode cL_law 1012 = .ok (.ireturn, 1) := dk_172 (dk_at dksL_law_37 8 rfl rfl)
theorem dL_law_1013 : decode cL_law 1013 = .ok (.goto 1444, 3) := dk_167 5 164 (dk_at dksL_law_37 9 rfl rfl)
theorem dL_law_1016 : decode cL_law 1016 = .ok (.aload_n 1, 1) := dk_43 (dk_at dksL_law_37 12 rfl rfl)
theorem dL_law_1017 : decode cL_law 1017 = .ok (.aload_n 0, 1) := dk_42 (dk_at dksL_law_37 13 rfl rfl)
theorem dL_law_1018 : decode cL_law 1018 = .ok (.iload 5, 2) := dk_21 5 (dk_at dksL_law_37 14 rfl rfl)
theorem dL_law_1020 : decode cL_law 1020 = .ok (.iconst 1, 1) := dk_4 (dk_at dksL_law_37 16 rfl rfl)
theorem dL_law_1021 : decode cL_law 1021 = .ok (.iadd, 1) := dk_96 (dk_at dksL_law_37 17 rfl rfl)
theorem dL_law_1022 : decode cL_law 1022 = .ok (.iaload, 1) := dk_46 (dk_at dksL_law_37 18 rfl rfl)
theorem dL_law_1023 : decode cL_law 1023 = .ok (.aload_n 3, 1) := dk_45 (dk_at dksL_law_37 19 rfl rfl)
theorem dL_law_1024 : decode cL_law 1024 = .ok (.invokestatic 183, 3) := dk_184 0 183 (dk_at dksL_law_37 20 rfl rfl)
theorem dL_law_1027 : decode cL_law 1027 = .ok (.istore 6, 2) := dk_54 6 (dk_at dksL_law_38 0 rfl rfl)
theorem dL_law_1029 : decode cL_law 1029 = .ok (.aload_n 2, 1) := dk_44 (dk_at dksL_law_38 2 rfl rfl)
theorem dL_law_1030 : decode cL_law 1030 = .ok (.aload_n 0, 1) := dk_42 (dk_at dksL_law_38 3 rfl rfl)
theorem dL_law_1031 : decode cL_law 1031 = .ok (.iload 5, 2) := dk_21 5 (dk_at dksL_law_38 4 rfl rfl)
theorem dL_law_1033 : decode cL_law 1033 = .ok (.iconst 1, 1) := dk_4 (dk_at dksL_law_38 6 rfl rfl)
theorem dL_law_1034 : decode cL_law 1034 = .ok (.iadd, 1) := dk_96 (dk_at dksL_law_38 7 rfl rfl)
theorem dL_law_1035 : decode cL_law 1035 = .ok (.iaload, 1) := dk_46 (dk_at dksL_law_38 8 rfl rfl)
theorem dL_law_1036 : decode cL_law 1036 = .ok (.invokevirtual 185, 3) := dk_182 0 185 (dk_at dksL_law_38 9 rfl rfl)
theorem dL_law_1039 : decode cL_law 1039 = .ok (.istore 7, 2) := dk_54 7 (dk_at dksL_law_38 12 rfl rfl)
theorem dL_law_1041 : decode cL_law 1041 = .ok (.aload_n 2, 1) := dk_44 (dk_at dksL_law_38 14 rfl rfl)
theorem dL_law_1042 : decode cL_law 1042 = .ok (.invokevirtual 144, 3) := dk_182 0 144 (dk_at dksL_law_38 15 rfl rfl)
theorem dL_law_1045 : decode cL_law 1045 = .ok (.iload 6, 2) := dk_21 6 (dk_at dksL_law_38 18 rfl rfl)
theorem dL_law_1047 : decode cL_law 1047 = .ok (.if_icmp .eq 5, 3) := dk_159 0 5 (dk_at dksL_law_38 20 rfl rfl)
theorem dL_law_1050 : decode cL_law 1050 = .ok (.iconst 0, 1) := dk_3 (dk_at dksL_law_38 23 rfl rfl)
theorem dL_law_1051 : decode cL_law 1051 = .ok (.ireturn, 1) := dk_172 (dk_at dksL_law_39 0 rfl rfl)
theorem dL_law_1052 : decode cL_law 1052 = .ok (.iload 6, 2) := dk_21 6 (dk_at dksL_law_39 1 rfl rfl)
theorem dL_law_1054 : decode cL_law 1054 = .ok (.ifCond .ne 15, 3) := dk_154 0 15 (dk_at dksL_law_39 3 rfl rfl)
theorem dL_law_1057 : decode cL_law 1057 = .ok (.aload_n 3, 1) := dk_45 (dk_at dksL_law_39 6 rfl rfl)
theorem dL_law_1058 : decode cL_law 1058 = .ok (.iconst 0, 1) := dk_3 (dk_at dksL_law_39 7 rfl rfl)
theorem dL_law_1059 : decode cL_law 1059 = .ok (.laload, 1) := dk_47 (dk_at dksL_law_39 8 rfl rfl)
theorem dL_law_1060 : decode cL_law 1060 = .ok (.iload 7, 2) := dk_21 7 (dk_at dksL_law_39 9 rfl rfl)
theorem dL_law_1062 : decode cL_law 1062 = .ok (.i2l, 1) := dk_133 (dk_at dksL_law_39 11 rfl rfl)
theorem dL_law_1063 : decode cL_law 1063 = .ok (.lcmp, 1) := dk_148 (dk_at dksL_law_39 12 rfl rfl)
theorem dL_law_1064 : decode cL_law 1064 = .ok (.ifCond .eq 5, 3) := dk_153 0 5 (dk_at dksL_law_39 13 rfl rfl)
theorem dL_law_1067 : decode cL_law 1067 = .ok (.iconst 0, 1) := dk_3 (dk_at dksL_law_39 16 rfl rfl)
theorem dL_law_1068 : decode cL_law 1068 = .ok (.ireturn, 1) := dk_172 (dk_at dksL_law_39 17 rfl rfl)
theorem dL_law_1069 : decode cL_law 1069 = .ok (.goto 1388, 3) := dk_167 5 108 (dk_at dksL_law_39 18 rfl rfl)
theorem dL_law_1072 : decode cL_law 1072 = .ok (.aload_n 1, 1) := dk_43 (dk_at dksL_law_39 21 rfl rfl)
theorem dL_law_1073 : decode cL_law 1073 = .ok (.aload_n 3, 1) := dk_45 (dk_at dksL_law_39 22 rfl rfl)
theorem dL_law_1074 : decode cL_law 1074 = .ok (.invokestatic 186, 3) := dk_184 0 186 (dk_at dksL_law_40 0 rfl rfl)
theorem dL_law_1077 : decode cL_law 1077 = .ok (.istore 6, 2) := dk_54 6 (dk_at dksL_law_40 3 rfl rfl)
theorem dL_law_1079 : decode cL_law 1079 = .ok (.aload_n 2, 1) := dk_44 (dk_at dksL_law_40 5 rfl rfl)
theorem dL_law_1080 : decode cL_law 1080 = .ok (.invokevirtual 189, 3) := dk_182 0 189 (dk_at dksL_law_40 6 rfl rfl)
theorem dL_law_1083 : decode cL_law 1083 = .ok (.istore 7, 2) := dk_54 7 (dk_at dksL_law_40 9 rfl rfl)
theorem dL_law_1085 : decode cL_law 1085 = .ok (.aload_n 2, 1) := dk_44 (dk_at dksL_law_40 11 rfl rfl)
theorem dL_law_1086 : decode cL_law 1086 = .ok (.invokevirtual 144, 3) := dk_182 0 144 (dk_at dksL_law_40 12 rfl rfl)
theorem dL_law_1089 : decode cL_law 1089 = .ok (.iload 6, 2) := dk_21 6 (dk_at dksL_law_40 15 rfl rfl)
theorem dL_law_1091 : decode cL_law 1091 = .ok (.if_icmp .eq 5, 3) := dk_159 0 5 (dk_at dksL_law_40 17 rfl rfl)
theorem dL_law_1094 : decode cL_law 1094 = .ok (.iconst 0, 1) := dk_3 (dk_at dksL_law_40 20 rfl rfl)
theorem dL_law_1095 : decode cL_law 1095 = .ok (.ireturn, 1) := dk_172 (dk_at dksL_law_40 21 rfl rfl)
theorem dL_law_1096 : decode cL_law 1096 = .ok (.iload 6, 2) := dk_21 6 (dk_at dksL_law_40 22 rfl rfl)
theorem dL_law_1098 : decode cL_law 1098 = .ok (.ifCond .ne 15, 3) := dk_154 0 15 (dk_at dksL_law_41 0 rfl rfl)
theorem dL_law_1101 : decode cL_law 1101 = .ok (.aload_n 3, 1) := dk_45 (dk_at dksL_law_41 3 rfl rfl)
theorem dL_law_1102 : decode cL_law 1102 = .ok (.iconst 0, 1) := dk_3 (dk_at dksL_law_41 4 rfl rfl)
theorem dL_law_1103 : decode cL_law 1103 = .ok (.laload, 1) := dk_47 (dk_at dksL_law_41 5 rfl rfl)
theorem dL_law_1104 : decode cL_law 1104 = .ok (.iload 7, 2) := dk_21 7 (dk_at dksL_law_41 6 rfl rfl)
theorem dL_law_1106 : decode cL_law 1106 = .ok (.i2l, 1) := dk_133 (dk_at dksL_law_41 8 rfl rfl)
theorem dL_law_1107 : decode cL_law 1107 = .ok (.lcmp, 1) := dk_148 (dk_at dksL_law_41 9 rfl rfl)
theorem dL_law_1108 : decode cL_law 1108 = .ok (.ifCond .eq 5, 3) := dk_153 0 5 (dk_at dksL_law_41 10 rfl rfl)
theorem dL_law_1111 : decode cL_law 1111 = .ok (.iconst 0, 1) := dk_3 (dk_at dksL_law_41 13 rfl rfl)
theorem dL_law_1112 : decode cL_law 1112 = .ok (.ireturn, 1) := dk_172 (dk_at dksL_law_41 14 rfl rfl)
theorem dL_law_1113 : decode cL_law 1113 = .ok (.goto 1344, 3) := dk_167 5 64 (dk_at dksL_law_41 15 rfl rfl)
theorem dL_law_1116 : decode cL_law 1116 = .ok (.aload_n 1, 1) := dk_43 (dk_at dksL_law_41 18 rfl rfl)
theorem dL_law_1117 : decode cL_law 1117 = .ok (.invokevirtual 190, 3) := dk_182 0 190 (dk_at dksL_law_41 19 rfl rfl)
theorem dL_law_1120 : decode cL_law 1120 = .ok (.aload_n 2, 1) := dk_44 (dk_at dksL_law_41 22 rfl rfl)
theorem dL_law_1121 : decode cL_law 1121 = .ok (.invokevirtual 193, 3) := dk_182 0 193 (dk_at dksL_law_42 0 rfl rfl)
theorem dL_law_1124 : decode cL_law 1124 = .ok (.if_icmp .eq 1333, 3) := dk_159 5 53 (dk_at dksL_law_42 3 rfl rfl)
theorem dL_law_1127 : decode cL_law 1127 = .ok (.iconst 0, 1) := dk_3 (dk_at dksL_law_42 6 rfl rfl)
theorem dL_law_1128 : decode cL_law 1128 = .ok (.ireturn, 1) := dk_172 (dk_at dksL_law_42 7 rfl rfl)
theorem dL_law_1129 : decode cL_law 1129 = .ok (.aload_n 1, 1) := dk_43 (dk_at dksL_law_42 8 rfl rfl)
theorem dL_law_1130 : decode cL_law 1130 = .ok (.invokevirtual 194, 3) := dk_182 0 194 (dk_at dksL_law_42 9 rfl rfl)
theorem dL_law_1133 : decode cL_law 1133 = .ok (.aload_n 2, 1) := dk_44 (dk_at dksL_law_42 12 rfl rfl)
theorem dL_law_1134 : decode cL_law 1134 = .ok (.invokevirtual 197, 3) := dk_182 0 197 (dk_at dksL_law_42 13 rfl rfl)
theorem dL_law_1137 : decode cL_law 1137 = .ok (.if_icmp .eq 1320, 3) := dk_159 5 40 (dk_at dksL_law_42 16 rfl rfl)
theorem dL_law_1140 : decode cL_law 1140 = .ok (.iconst 0, 1) := dk_3 (dk_at dksL_law_42 19 rfl rfl)
theorem dL_law_1141 : decode cL_law 1141 = .ok (.ireturn, 1) := dk_172 (dk_at dksL_law_42 20 rfl rfl)
theorem dL_law_1142 : decode cL_law 1142 = .ok (.aload_n 1, 1) := dk_43 (dk_at dksL_law_42 21 rfl rfl)
theorem dL_law_1143 : decode cL_law 1143 = .ok (.aload_n 3, 1) := dk_45 (dk_at dksL_law_42 22 rfl rfl)
theorem dL_law_1144 : decode cL_law 1144 = .ok (.invokestatic 198, 3) := dk_184 0 198 (dk_at dksL_law_43 0 rfl rfl)
theorem dL_law_1147 : decode cL_law 1147 = .ok (.istore 6, 2) := dk_54 6 (dk_at dksL_law_43 3 rfl rfl)
theorem dL_law_1149 : decode cL_law 1149 = .ok (.aload_n 2, 1) := dk_44 (dk_at dksL_law_43 5 rfl rfl)
theorem dL_law_1150 : decode cL_law 1150 = .ok (.invokevirtual 200, 3) := dk_182 0 200 (dk_at dksL_law_43 6 rfl rfl)
theorem dL_law_1153 : decode cL_law 1153 = .ok (.istore 7, 2) := dk_54 7 (dk_at dksL_law_43 9 rfl rfl)
theorem dL_law_1155 : decode cL_law 1155 = .ok (.aload_n 2, 1) := dk_44 (dk_at dksL_law_43 11 rfl rfl)
theorem dL_law_1156 : decode cL_law 1156 = .ok (.invokevirtual 144, 3) := dk_182 0 144 (dk_at dksL_law_43 12 rfl rfl)
theorem dL_law_1159 : decode cL_law 1159 = .ok (.iload 6, 2) := dk_21 6 (dk_at dksL_law_43 15 rfl rfl)
theorem dL_law_1161 : decode cL_law 1161 = .ok (.if_icmp .eq 5, 3) := dk_159 0 5 (dk_at dksL_law_43 17 rfl rfl)
theorem dL_law_1164 : decode cL_law 1164 = .ok (.iconst 0, 1) := dk_3 (dk_at dksL_law_43 20 rfl rfl)
theorem dL_law_1165 : decode cL_law 1165 = .ok (.ireturn, 1) := dk_172 (dk_at dksL_law_43 21 rfl rfl)
theorem dL_law_1166 : decode cL_law 1166 = .ok (.iload 6, 2) := dk_21 6 (dk_at dksL_law_43 22 rfl rfl)
theorem dL_law_1168 : decode cL_law 1168 = .ok (.ifCond .ne 15, 3) := dk_154 0 15 (dk_at dksL_law_44 0 rfl rfl)
theorem dL_law_1171 : decode cL_law 1171 = .ok (.aload_n 3, 1) := dk_45 (dk_at dksL_law_44 3 rfl rfl)
theorem dL_law_1172 : decode cL_law 1172 = .ok (.iconst 0, 1) := dk_3 (dk_at dksL_law_44 4 rfl rfl)
theorem dL_law_1173 : decode cL_law 1173 = .ok (.laload, 1) := dk_47 (dk_at dksL_law_44 5 rfl rfl)
theorem dL_law_1174 : decode cL_law 1174 = .ok (.iload 7, 2) := dk_21 7 (dk_at dksL_law_44 6 rfl rfl)
theorem dL_law_1176 : decode cL_law 1176 = .ok (.i2l, 1) := dk_133 (dk_at dksL_law_44 8 rfl rfl)
theorem dL_law_1177 : decode cL_law 1177 = .ok (.lcmp, 1) := dk_148 (dk_at dksL_law_44 9 rfl rfl)
theorem dL_law_1178 : decode cL_law 1178 = .ok (.ifCond .eq 5, 3) := dk_153 0 5 (dk_at dksL_law_44 10 rfl rfl)
theorem dL_law_1181 : decode cL_law 1181 = .ok (.iconst 0, 1) := dk_3 (dk_at dksL_law_44 13 rfl rfl)
theorem dL_law_1182 : decode cL_law 1182 = .ok (.ireturn, 1) := dk_172 (dk_at dksL_law_44 14 rfl rfl)
theorem dL_law_1183 : decode cL_law 1183 = .ok (.goto 1274, 3) := dk_167 4 250 (dk_at dksL_law_44 15 rfl rfl)
theorem dL_law_1186 : decode cL_law 1186 = .ok (.aload_n 1, 1) := dk_43 (dk_at dksL_law_44 18 rfl rfl)
theorem dL_law_1187 : decode cL_law 1187 = .ok (.aload_n 0, 1) := dk_42 (dk_at dksL_law_44 19 rfl rfl)
theorem dL_law_1188 : decode cL_law 1188 = .ok (.iload 5, 2) := dk_21 5 (dk_at dksL_law_44 20 rfl rfl)
theorem dL_law_1190 : decode cL_law 1190 = .ok (.iconst 1, 1) := dk_4 (dk_at dksL_law_44 22 rfl rfl)
theorem dL_law_1191 : decode cL_law 1191 = .ok (.iadd, 1) := dk_96 (dk_at dksL_law_44 23 rfl rfl)
theorem dL_law_1192 : decode cL_law 1192 = .ok (.iaload, 1) := dk_46 (dk_at dksL_law_45 0 rfl rfl)
theorem dL_law_1193 : decode cL_law 1193 = .ok (.aload_n 0, 1) := dk_42 (dk_at dksL_law_45 1 rfl rfl)
theorem dL_law_1194 : decode cL_law 1194 = .ok (.iload 5, 2) := dk_21 5 (dk_at dksL_law_45 2 rfl rfl)
theorem dL_law_1196 : decode cL_law 1196 = .ok (.iconst 2, 1) := dk_5 (dk_at dksL_law_45 4 rfl rfl)
theorem dL_law_1197 : decode cL_law 1197 = .ok (.iadd, 1) := dk_96 (dk_at dksL_law_45 5 rfl rfl)
theorem dL_law_1198 : decode cL_law 1198 = .ok (.iaload, 1) := dk_46 (dk_at dksL_law_45 6 rfl rfl)
theorem dL_law_1199 : decode cL_law 1199 = .ok (.aload_n 3, 1) := dk_45 (dk_at dksL_law_45 7 rfl rfl)
theorem dL_law_1200 : decode cL_law 1200 = .ok (.invokestatic 201, 3) := dk_184 0 201 (dk_at dksL_law_45 8 rfl rfl)
theorem dL_law_1203 : decode cL_law 1203 = .ok (.istore 6, 2) := dk_54 6 (dk_at dksL_law_45 11 rfl rfl)
theorem dL_law_1205 : decode cL_law 1205 = .ok (.aload_n 2, 1) := dk_44 (dk_at dksL_law_45 13 rfl rfl)
theorem dL_law_1206 : decode cL_law 1206 = .ok (.aload_n 0, 1) := dk_42 (dk_at dksL_law_45 14 rfl rfl)
theorem dL_law_1207 : decode cL_law 1207 = .ok (.iload 5, 2) := dk_21 5 (dk_at dksL_law_45 15 rfl rfl)
theorem dL_law_1209 : decode cL_law 1209 = .ok (.iconst 1, 1) := dk_4 (dk_at dksL_law_45 17 rfl rfl)
theorem dL_law_1210 : decode cL_law 1210 = .ok (.iadd, 1) := dk_96 (dk_at dksL_law_45 18 rfl rfl)
theorem dL_law_1211 : decode cL_law 1211 = .ok (.iaload, 1) := dk_46 (dk_at dksL_law_45 19 rfl rfl)
theorem dL_law_1212 : decode cL_law 1212 = .ok (.aload_n 0, 1) := dk_42 (dk_at dksL_law_45 20 rfl rfl)
theorem dL_law_1213 : decode cL_law 1213 = .ok (.iload 5, 2) := dk_21 5 (dk_at dksL_law_45 21 rfl rfl)
theorem dL_law_1215 : decode cL_law 1215 = .ok (.iconst 2, 1) := dk_5 (dk_at dksL_law_45 23 rfl rfl)
theorem dL_law_1216 : decode cL_law 1216 = .ok (.iadd, 1) := dk_96 (dk_at dksL_law_46 0 rfl rfl)
theorem dL_law_1217 : decode cL_law 1217 = .ok (.iaload, 1) := dk_46 (dk_at dksL_law_46 1 rfl rfl)
theorem dL_law_1218 : decode cL_law 1218 = .ok (.invokevirtual 203, 3) := dk_182 0 203 (dk_at dksL_law_46 2 rfl rfl)
theorem dL_law_1221 : decode cL_law 1221 = .ok (.istore 7, 2) := dk_54 7 (dk_at dksL_law_46 5 rfl rfl)
theorem dL_law_1223 : decode cL_law 1223 = .ok (.aload_n 2, 1) := dk_44 (dk_at dksL_law_46 7 rfl rfl)
theorem dL_law_1224 : decode cL_law 1224 = .ok (.invokevirtual 144, 3) := dk_182 0 144 (dk_at dksL_law_46 8 rfl rfl)
theorem dL_law_1227 : decode cL_law 1227 = .ok (.iload 6, 2) := dk_21 6 (dk_at dksL_law_46 11 rfl rfl)
theorem dL_law_1229 : decode cL_law 1229 = .ok (.if_icmp .eq 5, 3) := dk_159 0 5 (dk_at dksL_law_46 13 rfl rfl)
theorem dL_law_1232 : decode cL_law 1232 = .ok (.iconst 0, 1) := dk_3 (dk_at dksL_law_46 16 rfl rfl)
theorem dL_law_1233 : decode cL_law 1233 = .ok (.ireturn, 1) := dk_172 (dk_at dksL_law_46 17 rfl rfl)
theorem dL_law_1234 : decode cL_law 1234 = .ok (.iload 6, 2) := dk_21 6 (dk_at dksL_law_46 18 rfl rfl)
theorem dL_law_1236 : decode cL_law 1236 = .ok (.ifCond .ne 15, 3) := dk_154 0 15 (dk_at dksL_law_46 20 rfl rfl)
theorem dL_law_1239 : decode cL_law 1239 = .ok (.aload_n 3, 1) := dk_45 (dk_at dksL_law_46 23 rfl rfl)
theorem dL_law_1240 : decode cL_law 1240 = .ok (.iconst 0, 1) := dk_3 (dk_at dksL_law_47 0 rfl rfl)
theorem dL_law_1241 : decode cL_law 1241 = .ok (.laload, 1) := dk_47 (dk_at dksL_law_47 1 rfl rfl)
theorem dL_law_1242 : decode cL_law 1242 = .ok (.iload 7, 2) := dk_21 7 (dk_at dksL_law_47 2 rfl rfl)
theorem dL_law_1244 : decode cL_law 1244 = .ok (.i2l, 1) := dk_133 (dk_at dksL_law_47 4 rfl rfl)
theorem dL_law_1245 : decode cL_law 1245 = .ok (.lcmp, 1) := dk_148 (dk_at dksL_law_47 5 rfl rfl)
theorem dL_law_1246 : decode cL_law 1246 = .ok (.ifCond .eq 5, 3) := dk_153 0 5 (dk_at dksL_law_47 6 rfl rfl)
theorem dL_law_1249 : decode cL_law 1249 = .ok (.iconst 0, 1) := dk_3 (dk_at dksL_law_47 9 rfl rfl)
theorem dL_law_1250 : decode cL_law 1250 = .ok (.ireturn, 1) := dk_172 (dk_at dksL_law_47 10 rfl rfl)
theorem dL_law_1251 : decode cL_law 1251 = .ok (.goto 1206, 3) := dk_167 4 182 (dk_at dksL_law_47 11 rfl rfl)
theorem dL_law_1254 : decode cL_law 1254 = .ok (.aload_n 1, 1) := dk_43 (dk_at dksL_law_47 14 rfl rfl)
theorem dL_law_1255 : decode cL_law 1255 = .ok (.aload_n 0, 1) := dk_42 (dk_at dksL_law_47 15 rfl rfl)
theorem dL_law_1256 : decode cL_law 1256 = .ok (.iload 5, 2) := dk_21 5 (dk_at dksL_law_47 16 rfl rfl)
theorem dL_law_1258 : decode cL_law 1258 = .ok (.iconst 1, 1) := dk_4 (dk_at dksL_law_47 18 rfl rfl)
theorem dL_law_1259 : decode cL_law 1259 = .ok (.iadd, 1) := dk_96 (dk_at dksL_law_47 19 rfl rfl)
theorem dL_law_1260 : decode cL_law 1260 = .ok (.iaload, 1) := dk_46 (dk_at dksL_law_47 20 rfl rfl)
theorem dL_law_1261 : decode cL_law 1261 = .ok (.aload_n 0, 1) := dk_42 (dk_at dksL_law_47 21 rfl rfl)
theorem dL_law_1262 : decode cL_law 1262 = .ok (.iload 5, 2) := dk_21 5 (dk_at dksL_law_47 22 rfl rfl)
theorem dL_law_1264 : decode cL_law 1264 = .ok (.iconst 2, 1) := dk_5 (dk_at dksL_law_48 0 rfl rfl)
theorem dL_law_1265 : decode cL_law 1265 = .ok (.iadd, 1) := dk_96 (dk_at dksL_law_48 1 rfl rfl)
theorem dL_law_1266 : decode cL_law 1266 = .ok (.iaload, 1) := dk_46 (dk_at dksL_law_48 2 rfl rfl)
theorem dL_law_1267 : decode cL_law 1267 = .ok (.aload_n 0, 1) := dk_42 (dk_at dksL_law_48 3 rfl rfl)
theorem dL_law_1268 : decode cL_law 1268 = .ok (.iload 5, 2) := dk_21 5 (dk_at dksL_law_48 4 rfl rfl)
theorem dL_law_1270 : decode cL_law 1270 = .ok (.iconst 3, 1) := dk_6 (dk_at dksL_law_48 6 rfl rfl)
theorem dL_law_1271 : decode cL_law 1271 = .ok (.iadd, 1) := dk_96 (dk_at dksL_law_48 7 rfl rfl)
theorem dL_law_1272 : decode cL_law 1272 = .ok (.iaload, 1) := dk_46 (dk_at dksL_law_48 8 rfl rfl)
theorem dL_law_1273 : decode cL_law 1273 = .ok (.ifCond .eq 7, 3) := dk_153 0 7 (dk_at dksL_law_48 9 rfl rfl)
theorem dL_law_1276 : decode cL_law 1276 = .ok (.iconst 1, 1) := dk_4 (dk_at dksL_law_48 12 rfl rfl)
theorem dL_law_1277 : decode cL_law 1277 = .ok (.goto 4, 3) := dk_167 0 4 (dk_at dksL_law_48 13 rfl rfl)
theorem dL_law_1280 : decode cL_law 1280 = .ok (.iconst 0, 1) := dk_3 (dk_at dksL_law_48 16 rfl rfl)
theorem dL_law_1281 : decode cL_law 1281 = .ok (.aload_n 3, 1) := dk_45 (dk_at dksL_law_48 17 rfl rfl)
theorem dL_law_1282 : decode cL_law 1282 = .ok (.invokestatic 204, 3) := dk_184 0 204 (dk_at dksL_law_48 18 rfl rfl)
theorem dL_law_1285 : decode cL_law 1285 = .ok (.istore 6, 2) := dk_54 6 (dk_at dksL_law_48 21 rfl rfl)
theorem dL_law_1287 : decode cL_law 1287 = .ok (.aload_n 2, 1) := dk_44 (dk_at dksL_law_48 23 rfl rfl)
theorem dL_law_1288 : decode cL_law 1288 = .ok (.aload_n 0, 1) := dk_42 (dk_at dksL_law_49 0 rfl rfl)
theorem dL_law_1289 : decode cL_law 1289 = .ok (.iload 5, 2) := dk_21 5 (dk_at dksL_law_49 1 rfl rfl)
theorem dL_law_1291 : decode cL_law 1291 = .ok (.iconst 1, 1) := dk_4 (dk_at dksL_law_49 3 rfl rfl)
theorem dL_law_1292 : decode cL_law 1292 = .ok (.iadd, 1) := dk_96 (dk_at dksL_law_49 4 rfl rfl)
theorem dL_law_1293 : decode cL_law 1293 = .ok (.iaload, 1) := dk_46 (dk_at dksL_law_49 5 rfl rfl)
theorem dL_law_1294 : decode cL_law 1294 = .ok (.aload_n 0, 1) := dk_42 (dk_at dksL_law_49 6 rfl rfl)
theorem dL_law_1295 : decode cL_law 1295 = .ok (.iload 5, 2) := dk_21 5 (dk_at dksL_law_49 7 rfl rfl)
theorem dL_law_1297 : decode cL_law 1297 = .ok (.iconst 2, 1) := dk_5 (dk_at dksL_law_49 9 rfl rfl)
theorem dL_law_1298 : decode cL_law 1298 = .ok (.iadd, 1) := dk_96 (dk_at dksL_law_49 10 rfl rfl)
theorem dL_law_1299 : decode cL_law 1299 = .ok (.iaload, 1) := dk_46 (dk_at dksL_law_49 11 rfl rfl)
theorem dL_law_1300 : decode cL_law 1300 = .ok (.aload_n 0, 1) := dk_42 (dk_at dksL_law_49 12 rfl rfl)
theorem dL_law_1301 : decode cL_law 1301 = .ok (.iload 5, 2) := dk_21 5 (dk_at dksL_law_49 13 rfl rfl)
theorem dL_law_1303 : decode cL_law 1303 = .ok (.iconst 3, 1) := dk_6 (dk_at dksL_law_49 15 rfl rfl)
theorem dL_law_1304 : decode cL_law 1304 = .ok (.iadd, 1) := dk_96 (dk_at dksL_law_49 16 rfl rfl)
theorem dL_law_1305 : decode cL_law 1305 = .ok (.iaload, 1) := dk_46 (dk_at dksL_law_49 17 rfl rfl)
theorem dL_law_1306 : decode cL_law 1306 = .ok (.ifCond .eq 7, 3) := dk_153 0 7 (dk_at dksL_law_49 18 rfl rfl)
theorem dL_law_1309 : decode cL_law 1309 = .ok (.iconst 1, 1) := dk_4 (dk_at dksL_law_49 21 rfl rfl)
theorem dL_law_1310 : decode cL_law 1310 = .ok (.goto 4, 3) := dk_167 0 4 (dk_at dksL_law_50 0 rfl rfl)
theorem dL_law_1313 : decode cL_law 1313 = .ok (.iconst 0, 1) := dk_3 (dk_at dksL_law_50 3 rfl rfl)
theorem dL_law_1314 : decode cL_law 1314 = .ok (.invokevirtual 207, 3) := dk_182 0 207 (dk_at dksL_law_50 4 rfl rfl)
theorem dL_law_1317 : decode cL_law 1317 = .ok (.istore 7, 2) := dk_54 7 (dk_at dksL_law_50 7 rfl rfl)
theorem dL_law_1319 : decode cL_law 1319 = .ok (.aload_n 2, 1) := dk_44 (dk_at dksL_law_50 9 rfl rfl)
theorem dL_law_1320 : decode cL_law 1320 = .ok (.invokevirtual 144, 3) := dk_182 0 144 (dk_at dksL_law_50 10 rfl rfl)
theorem dL_law_1323 : decode cL_law 1323 = .ok (.iload 6, 2) := dk_21 6 (dk_at dksL_law_50 13 rfl rfl)
theorem dL_law_1325 : decode cL_law 1325 = .ok (.if_icmp .eq 5, 3) := dk_159 0 5 (dk_at dksL_law_50 15 rfl rfl)
theorem dL_law_1328 : decode cL_law 1328 = .ok (.iconst 0, 1) := dk_3 (dk_at dksL_law_50 18 rfl rfl)
theorem dL_law_1329 : decode cL_law 1329 = .ok (.ireturn, 1) := dk_172 (dk_at dksL_law_50 19 rfl rfl)
theorem dL_law_1330 : decode cL_law 1330 = .ok (.iload 6, 2) := dk_21 6 (dk_at dksL_law_50 20 rfl rfl)
theorem dL_law_1332 : decode cL_law 1332 = .ok (.ifCond .ne 15, 3) := dk_154 0 15 (dk_at dksL_law_51 0 rfl rfl)
theorem dL_law_1335 : decode cL_law 1335 = .ok (.aload_n 3, 1) := dk_45 (dk_at dksL_law_51 3 rfl rfl)
theorem dL_law_1336 : decode cL_law 1336 = .ok (.iconst 0, 1) := dk_3 (dk_at dksL_law_51 4 rfl rfl)
theorem dL_law_1337 : decode cL_law 1337 = .ok (.laload, 1) := dk_47 (dk_at dksL_law_51 5 rfl rfl)
theorem dL_law_1338 : decode cL_law 1338 = .ok (.iload 7, 2) := dk_21 7 (dk_at dksL_law_51 6 rfl rfl)
theorem dL_law_1340 : decode cL_law 1340 = .ok (.i2l, 1) := dk_133 (dk_at dksL_law_51 8 rfl rfl)
theorem dL_law_1341 : decode cL_law 1341 = .ok (.lcmp, 1) := dk_148 (dk_at dksL_law_51 9 rfl rfl)
theorem dL_law_1342 : decode cL_law 1342 = .ok (.ifCond .eq 5, 3) := dk_153 0 5 (dk_at dksL_law_51 10 rfl rfl)
theorem dL_law_1345 : decode cL_law 1345 = .ok (.iconst 0, 1) := dk_3 (dk_at dksL_law_51 13 rfl rfl)
theorem dL_law_1346 : decode cL_law 1346 = .ok (.ireturn, 1) := dk_172 (dk_at dksL_law_51 14 rfl rfl)
theorem dL_law_1347 : decode cL_law 1347 = .ok (.goto 1110, 3) := dk_167 4 86 (dk_at dksL_law_51 15 rfl rfl)
theorem dL_law_1350 : decode cL_law 1350 = .ok (.aload_n 1, 1) := dk_43 (dk_at dksL_law_51 18 rfl rfl)
theorem dL_law_1351 : decode cL_law 1351 = .ok (.aload_n 0, 1) := dk_42 (dk_at dksL_law_51 19 rfl rfl)
theorem dL_law_1352 : decode cL_law 1352 = .ok (.iload 5, 2) := dk_21 5 (dk_at dksL_law_51 20 rfl rfl)
theorem dL_law_1354 : decode cL_law 1354 = .ok (.iconst 1, 1) := dk_4 (dk_at dksL_law_51 22 rfl rfl)
theorem dL_law_1355 : decode cL_law 1355 = .ok (.iadd, 1) := dk_96 (dk_at dksL_law_51 23 rfl rfl)
theorem dL_law_1356 : decode cL_law 1356 = .ok (.iaload, 1) := dk_46 (dk_at dksL_law_52 0 rfl rfl)
theorem dL_law_1357 : decode cL_law 1357 = .ok (.aload_n 0, 1) := dk_42 (dk_at dksL_law_52 1 rfl rfl)
theorem dL_law_1358 : decode cL_law 1358 = .ok (.iload 5, 2) := dk_21 5 (dk_at dksL_law_52 2 rfl rfl)
theorem dL_law_1360 : decode cL_law 1360 = .ok (.iconst 2, 1) := dk_5 (dk_at dksL_law_52 4 rfl rfl)
theorem dL_law_1361 : decode cL_law 1361 = .ok (.iadd, 1) := dk_96 (dk_at dksL_law_52 5 rfl rfl)
theorem dL_law_1362 : decode cL_law 1362 = .ok (.iaload, 1) := dk_46 (dk_at dksL_law_52 6 rfl rfl)
theorem dL_law_1363 : decode cL_law 1363 = .ok (.aload_n 0, 1) := dk_42 (dk_at dksL_law_52 7 rfl rfl)
theorem dL_law_1364 : decode cL_law 1364 = .ok (.iload 5, 2) := dk_21 5 (dk_at dksL_law_52 8 rfl rfl)
theorem dL_law_1366 : decode cL_law 1366 = .ok (.iconst 3, 1) := dk_6 (dk_at dksL_law_52 10 rfl rfl)
theorem dL_law_1367 : decode cL_law 1367 = .ok (.iadd, 1) := dk_96 (dk_at dksL_law_52 11 rfl rfl)
theorem dL_law_1368 : decode cL_law 1368 = .ok (.iaload, 1) := dk_46 (dk_at dksL_law_52 12 rfl rfl)
theorem dL_law_1369 : decode cL_law 1369 = .ok (.ifCond .eq 7, 3) := dk_153 0 7 (dk_at dksL_law_52 13 rfl rfl)
theorem dL_law_1372 : decode cL_law 1372 = .ok (.iconst 1, 1) := dk_4 (dk_at dksL_law_52 16 rfl rfl)
theorem dL_law_1373 : decode cL_law 1373 = .ok (.goto 4, 3) := dk_167 0 4 (dk_at dksL_law_52 17 rfl rfl)
theorem dL_law_1376 : decode cL_law 1376 = .ok (.iconst 0, 1) := dk_3 (dk_at dksL_law_52 20 rfl rfl)
theorem dL_law_1377 : decode cL_law 1377 = .ok (.aload_n 3, 1) := dk_45 (dk_at dksL_law_52 21 rfl rfl)
theorem dL_law_1378 : decode cL_law 1378 = .ok (.invokestatic 208, 3) := dk_184 0 208 (dk_at dksL_law_53 0 rfl rfl)
theorem dL_law_1381 : decode cL_law 1381 = .ok (.istore 6, 2) := dk_54 6 (dk_at dksL_law_53 3 rfl rfl)
theorem dL_law_1383 : decode cL_law 1383 = .ok (.aload_n 2, 1) := dk_44 (dk_at dksL_law_53 5 rfl rfl)
theorem dL_law_1384 : decode cL_law 1384 = .ok (.aload_n 0, 1) := dk_42 (dk_at dksL_law_53 6 rfl rfl)
theorem dL_law_1385 : decode cL_law 1385 = .ok (.iload 5, 2) := dk_21 5 (dk_at dksL_law_53 7 rfl rfl)
theorem dL_law_1387 : decode cL_law 1387 = .ok (.iconst 1, 1) := dk_4 (dk_at dksL_law_53 9 rfl rfl)
theorem dL_law_1388 : decode cL_law 1388 = .ok (.iadd, 1) := dk_96 (dk_at dksL_law_53 10 rfl rfl)
theorem dL_law_1389 : decode cL_law 1389 = .ok (.iaload, 1) := dk_46 (dk_at dksL_law_53 11 rfl rfl)
theorem dL_law_1390 : decode cL_law 1390 = .ok (.aload_n 0, 1) := dk_42 (dk_at dksL_law_53 12 rfl rfl)
theorem dL_law_1391 : decode cL_law 1391 = .ok (.iload 5, 2) := dk_21 5 (dk_at dksL_law_53 13 rfl rfl)
theorem dL_law_1393 : decode cL_law 1393 = .ok (.iconst 2, 1) := dk_5 (dk_at dksL_law_53 15 rfl rfl)
theorem dL_law_1394 : decode cL_law 1394 = .ok (.iadd, 1) := dk_96 (dk_at dksL_law_53 16 rfl rfl)
theorem dL_law_1395 : decode cL_law 1395 = .ok (.iaload, 1) := dk_46 (dk_at dksL_law_53 17 rfl rfl)
theorem dL_law_1396 : decode cL_law 1396 = .ok (.aload_n 0, 1) := dk_42 (dk_at dksL_law_53 18 rfl rfl)
theorem dL_law_1397 : decode cL_law 1397 = .ok (.iload 5, 2) := dk_21 5 (dk_at dksL_law_53 19 rfl rfl)
theorem dL_law_1399 : decode cL_law 1399 = .ok (.iconst 3, 1) := dk_6 (dk_at dksL_law_53 21 rfl rfl)
theorem dL_law_1400 : decode cL_law 1400 = .ok (.iadd, 1) := dk_96 (dk_at dksL_law_53 22 rfl rfl)
theorem dL_law_1401 : decode cL_law 1401 = .ok (.iaload, 1) := dk_46 (dk_at dksL_law_53 23 rfl rfl)
theorem dL_law_1402 : decode cL_law 1402 = .ok (.ifCond .eq 7, 3) := dk_153 0 7 (dk_at dksL_law_54 0 rfl rfl)
theorem dL_law_1405 : decode cL_law 1405 = .ok (.iconst 1, 1) := dk_4 (dk_at dksL_law_54 3 rfl rfl)
theorem dL_law_1406 : decode cL_law 1406 = .ok (.goto 4, 3) := dk_167 0 4 (dk_at dksL_law_54 4 rfl rfl)
theorem dL_law_1409 : decode cL_law 1409 = .ok (.iconst 0, 1) := dk_3 (dk_at dksL_law_54 7 rfl rfl)
theorem dL_law_1410 : decode cL_law 1410 = .ok (.invokevirtual 210, 3) := dk_182 0 210 (dk_at dksL_law_54 8 rfl rfl)
theorem dL_law_1413 : decode cL_law 1413 = .ok (.istore 7, 2) := dk_54 7 (dk_at dksL_law_54 11 rfl rfl)
theorem dL_law_1415 : decode cL_law 1415 = .ok (.aload_n 2, 1) := dk_44 (dk_at dksL_law_54 13 rfl rfl)
theorem dL_law_1416 : decode cL_law 1416 = .ok (.invokevirtual 144, 3) := dk_182 0 144 (dk_at dksL_law_54 14 rfl rfl)
theorem dL_law_1419 : decode cL_law 1419 = .ok (.iload 6, 2) := dk_21 6 (dk_at dksL_law_54 17 rfl rfl)
theorem dL_law_1421 : decode cL_law 1421 = .ok (.if_icmp .eq 5, 3) := dk_159 0 5 (dk_at dksL_law_54 19 rfl rfl)
theorem dL_law_1424 : decode cL_law 1424 = .ok (.iconst 0, 1) := dk_3 (dk_at dksL_law_54 22 rfl rfl)
theorem dL_law_1425 : decode cL_law 1425 = .ok (.ireturn, 1) := dk_172 (dk_at dksL_law_54 23 rfl rfl)
theorem dL_law_1426 : decode cL_law 1426 = .ok (.iload 6, 2) := dk_21 6 (dk_at dksL_law_55 0 rfl rfl)
theorem dL_law_1428 : decode cL_law 1428 = .ok (.ifCond .ne 15, 3) := dk_154 0 15 (dk_at dksL_law_55 2 rfl rfl)
theorem dL_law_1431 : decode cL_law 1431 = .ok (.aload_n 3, 1) := dk_45 (dk_at dksL_law_55 5 rfl rfl)
theorem dL_law_1432 : decode cL_law 1432 = .ok (.iconst 0, 1) := dk_3 (dk_at dksL_law_55 6 rfl rfl)
theorem dL_law_1433 : decode cL_law 1433 = .ok (.laload, 1) := dk_47 (dk_at dksL_law_55 7 rfl rfl)
theorem dL_law_1434 : decode cL_law 1434 = .ok (.iload 7, 2) := dk_21 7 (dk_at dksL_law_55 8 rfl rfl)
theorem dL_law_1436 : decode cL_law 1436 = .ok (.i2l, 1) := dk_133 (dk_at dksL_law_55 10 rfl rfl)
theorem dL_law_1437 : decode cL_law 1437 = .ok (.lcmp, 1) := dk_148 (dk_at dksL_law_55 11 rfl rfl)
theorem dL_law_1438 : decode cL_law 1438 = .ok (.ifCond .eq 5, 3) := dk_153 0 5 (dk_at dksL_law_55 12 rfl rfl)
theorem dL_law_1441 : decode cL_law 1441 = .ok (.iconst 0, 1) := dk_3 (dk_at dksL_law_55 15 rfl rfl)
theorem dL_law_1442 : decode cL_law 1442 = .ok (.ireturn, 1) := dk_172 (dk_at dksL_law_55 16 rfl rfl)
theorem dL_law_1443 : decode cL_law 1443 = .ok (.goto 1014, 3) := dk_167 3 246 (dk_at dksL_law_55 17 rfl rfl)
theorem dL_law_1446 : decode cL_law 1446 = .ok (.aload_n 1, 1) := dk_43 (dk_at dksL_law_55 20 rfl rfl)
theorem dL_law_1447 : decode cL_law 1447 = .ok (.aload_n 0, 1) := dk_42 (dk_at dksL_law_55 21 rfl rfl)
theorem dL_law_1448 : decode cL_law 1448 = .ok (.iload 5, 2) := dk_21 5 (dk_at dksL_law_55 22 rfl rfl)
theorem dL_law_1450 : decode cL_law 1450 = .ok (.iconst 1, 1) := dk_4 (dk_at dksL_law_56 0 rfl rfl)
theorem dL_law_1451 : decode cL_law 1451 = .ok (.iadd, 1) := dk_96 (dk_at dksL_law_56 1 rfl rfl)
theorem dL_law_1452 : decode cL_law 1452 = .ok (.iaload, 1) := dk_46 (dk_at dksL_law_56 2 rfl rfl)
theorem dL_law_1453 : decode cL_law 1453 = .ok (.aload_n 0, 1) := dk_42 (dk_at dksL_law_56 3 rfl rfl)
theorem dL_law_1454 : decode cL_law 1454 = .ok (.iload 5, 2) := dk_21 5 (dk_at dksL_law_56 4 rfl rfl)
theorem dL_law_1456 : decode cL_law 1456 = .ok (.iconst 2, 1) := dk_5 (dk_at dksL_law_56 6 rfl rfl)
theorem dL_law_1457 : decode cL_law 1457 = .ok (.iadd, 1) := dk_96 (dk_at dksL_law_56 7 rfl rfl)
theorem dL_law_1458 : decode cL_law 1458 = .ok (.iaload, 1) := dk_46 (dk_at dksL_law_56 8 rfl rfl)
theorem dL_law_1459 : decode cL_law 1459 = .ok (.aload_n 3, 1) := dk_45 (dk_at dksL_law_56 9 rfl rfl)
theorem dL_law_1460 : decode cL_law 1460 = .ok (.invokestatic 211, 3) := dk_184 0 211 (dk_at dksL_law_56 10 rfl rfl)
theorem dL_law_1463 : decode cL_law 1463 = .ok (.istore 6, 2) := dk_54 6 (dk_at dksL_law_56 13 rfl rfl)
theorem dL_law_1465 : decode cL_law 1465 = .ok (.aload_n 2, 1) := dk_44 (dk_at dksL_law_56 15 rfl rfl)
theorem dL_law_1466 : decode cL_law 1466 = .ok (.aload_n 0, 1) := dk_42 (dk_at dksL_law_56 16 rfl rfl)
theorem dL_law_1467 : decode cL_law 1467 = .ok (.iload 5, 2) := dk_21 5 (dk_at dksL_law_56 17 rfl rfl)
theorem dL_law_1469 : decode cL_law 1469 = .ok (.iconst 1, 1) := dk_4 (dk_at dksL_law_56 19 rfl rfl)
theorem dL_law_1470 : decode cL_law 1470 = .ok (.iadd, 1) := dk_96 (dk_at dksL_law_56 20 rfl rfl)
theorem dL_law_1471 : decode cL_law 1471 = .ok (.iaload, 1) := dk_46 (dk_at dksL_law_56 21 rfl rfl)
theorem dL_law_1472 : decode cL_law 1472 = .ok (.aload_n 0, 1) := dk_42 (dk_at dksL_law_56 22 rfl rfl)
theorem dL_law_1473 : decode cL_law 1473 = .ok (.iload 5, 2) := dk_21 5 (dk_at dksL_law_57 0 rfl rfl)
theorem dL_law_1475 : decode cL_law 1475 = .ok (.iconst 2, 1) := dk_5 (dk_at dksL_law_57 2 rfl rfl)
theorem dL_law_1476 : decode cL_law 1476 = .ok (.iadd, 1) := dk_96 (dk_at dksL_law_57 3 rfl rfl)
theorem dL_law_1477 : decode cL_law 1477 = .ok (.iaload, 1) := dk_46 (dk_at dksL_law_57 4 rfl rfl)
theorem dL_law_1478 : decode cL_law 1478 = .ok (.invokevirtual 213, 3) := dk_182 0 213 (dk_at dksL_law_57 5 rfl rfl)
theorem dL_law_1481 : decode cL_law 1481 = .ok (.istore 7, 2) := dk_54 7 (dk_at dksL_law_57 8 rfl rfl)
theorem dL_law_1483 : decode cL_law 1483 = .ok (.aload_n 2, 1) := dk_44 (dk_at dksL_law_57 10 rfl rfl)
theorem dL_law_1484 : decode cL_law 1484 = .ok (.invokevirtual 144, 3) := dk_182 0 144 (dk_at dksL_law_57 11 rfl rfl)
theorem dL_law_1487 : decode cL_law 1487 = .ok (.iload 6, 2) := dk_21 6 (dk_at dksL_law_57 14 rfl rfl)
theorem dL_law_1489 : decode cL_law 1489 = .ok (.if_icmp .eq 5, 3) := dk_159 0 5 (dk_at dksL_law_57 16 rfl rfl)
theorem dL_law_1492 : decode cL_law 1492 = .ok (.iconst 0, 1) := dk_3 (dk_at dksL_law_57 19 rfl rfl)
theorem dL_law_1493 : decode cL_law 1493 = .ok (.ireturn, 1) := dk_172 (dk_at dksL_law_57 20 rfl rfl)
theorem dL_law_1494 : decode cL_law 1494 = .ok (.iload 6, 2) := dk_21 6 (dk_at dksL_law_57 21 rfl rfl)
theorem dL_law_1496 : decode cL_law 1496 = .ok (.ifCond .ne 15, 3) := dk_154 0 15 (dk_at dksL_law_58 0 rfl rfl)
theorem dL_law_1499 : decode cL_law 1499 = .ok (.aload_n 3, 1) := dk_45 (dk_at dksL_law_58 3 rfl rfl)
theorem dL_law_1500 : decode cL_law 1500 = .ok (.iconst 0, 1) := dk_3 (dk_at dksL_law_58 4 rfl rfl)
theorem dL_law_1501 : decode cL_law 1501 = .ok (.laload, 1) := dk_47 (dk_at dksL_law_58 5 rfl rfl)
theorem dL_law_1502 : decode cL_law 1502 = .ok (.iload 7, 2) := dk_21 7 (dk_at dksL_law_58 6 rfl rfl)
theorem dL_law_1504 : decode cL_law 1504 = .ok (.i2l, 1) := dk_133 (dk_at dksL_law_58 8 rfl rfl)
theorem dL_law_1505 : decode cL_law 1505 = .ok (.lcmp, 1) := dk_148 (dk_at dksL_law_58 9 rfl rfl)
theorem dL_law_1506 : decode cL_law 1506 = .ok (.ifCond .eq 5, 3) := dk_153 0 5 (dk_at dksL_law_58 10 rfl rfl)
theorem dL_law_1509 : decode cL_law 1509 = .ok (.iconst 0, 1) := dk_3 (dk_at dksL_law_58 13 rfl rfl)
theorem dL_law_1510 : decode cL_law 1510 = .ok (.ireturn, 1) := dk_172 (dk_at dksL_law_58 14 rfl rfl)
theorem dL_law_1511 : decode cL_law 1511 = .ok (.goto 946, 3) := dk_167 3 178 (dk_at dksL_law_58 15 rfl rfl)
theorem dL_law_1514 : decode cL_law 1514 = .ok (.aload_n 1, 1) := dk_43 (dk_at dksL_law_58 18 rfl rfl)
theorem dL_law_1515 : decode cL_law 1515 = .ok (.aload_n 0, 1) := dk_42 (dk_at dksL_law_58 19 rfl rfl)
theorem dL_law_1516 : decode cL_law 1516 = .ok (.iload 5, 2) := dk_21 5 (dk_at dksL_law_58 20 rfl rfl)
theorem dL_law_1518 : decode cL_law 1518 = .ok (.iconst 1, 1) := dk_4 (dk_at dksL_law_58 22 rfl rfl)
theorem dL_law_1519 : decode cL_law 1519 = .ok (.iadd, 1) := dk_96 (dk_at dksL_law_58 23 rfl rfl)
theorem dL_law_1520 : decode cL_law 1520 = .ok (.iaload, 1) := dk_46 (dk_at dksL_law_59 0 rfl rfl)
theorem dL_law_1521 : decode cL_law 1521 = .ok (.aload_n 0, 1) := dk_42 (dk_at dksL_law_59 1 rfl rfl)
theorem dL_law_1522 : decode cL_law 1522 = .ok (.iload 5, 2) := dk_21 5 (dk_at dksL_law_59 2 rfl rfl)
theorem dL_law_1524 : decode cL_law 1524 = .ok (.iconst 2, 1) := dk_5 (dk_at dksL_law_59 4 rfl rfl)
theorem dL_law_1525 : decode cL_law 1525 = .ok (.iadd, 1) := dk_96 (dk_at dksL_law_59 5 rfl rfl)
theorem dL_law_1526 : decode cL_law 1526 = .ok (.iaload, 1) := dk_46 (dk_at dksL_law_59 6 rfl rfl)
theorem dL_law_1527 : decode cL_law 1527 = .ok (.aload_n 0, 1) := dk_42 (dk_at dksL_law_59 7 rfl rfl)
theorem dL_law_1528 : decode cL_law 1528 = .ok (.iload 5, 2) := dk_21 5 (dk_at dksL_law_59 8 rfl rfl)
theorem dL_law_1530 : decode cL_law 1530 = .ok (.iconst 3, 1) := dk_6 (dk_at dksL_law_59 10 rfl rfl)
theorem dL_law_1531 : decode cL_law 1531 = .ok (.iadd, 1) := dk_96 (dk_at dksL_law_59 11 rfl rfl)
theorem dL_law_1532 : decode cL_law 1532 = .ok (.iaload, 1) := dk_46 (dk_at dksL_law_59 12 rfl rfl)
theorem dL_law_1533 : decode cL_law 1533 = .ok (.aload_n 3, 1) := dk_45 (dk_at dksL_law_59 13 rfl rfl)
theorem dL_law_1534 : decode cL_law 1534 = .ok (.invokestatic 214, 3) := dk_184 0 214 (dk_at dksL_law_59 14 rfl rfl)
theorem dL_law_1537 : decode cL_law 1537 = .ok (.istore 6, 2) := dk_54 6 (dk_at dksL_law_59 17 rfl rfl)
theorem dL_law_1539 : decode cL_law 1539 = .ok (.aload_n 2, 1) := dk_44 (dk_at dksL_law_59 19 rfl rfl)
theorem dL_law_1540 : decode cL_law 1540 = .ok (.aload_n 0, 1) := dk_42 (dk_at dksL_law_59 20 rfl rfl)
theorem dL_law_1541 : decode cL_law 1541 = .ok (.iload 5, 2) := dk_21 5 (dk_at dksL_law_59 21 rfl rfl)
theorem dL_law_1543 : decode cL_law 1543 = .ok (.iconst 1, 1) := dk_4 (dk_at dksL_law_59 23 rfl rfl)
theorem dL_law_1544 : decode cL_law 1544 = .ok (.iadd, 1) := dk_96 (dk_at dksL_law_60 0 rfl rfl)
theorem dL_law_1545 : decode cL_law 1545 = .ok (.iaload, 1) := dk_46 (dk_at dksL_law_60 1 rfl rfl)
theorem dL_law_1546 : decode cL_law 1546 = .ok (.aload_n 0, 1) := dk_42 (dk_at dksL_law_60 2 rfl rfl)
theorem dL_law_1547 : decode cL_law 1547 = .ok (.iload 5, 2) := dk_21 5 (dk_at dksL_law_60 3 rfl rfl)
theorem dL_law_1549 : decode cL_law 1549 = .ok (.iconst 2, 1) := dk_5 (dk_at dksL_law_60 5 rfl rfl)
theorem dL_law_1550 : decode cL_law 1550 = .ok (.iadd, 1) := dk_96 (dk_at dksL_law_60 6 rfl rfl)
theorem dL_law_1551 : decode cL_law 1551 = .ok (.iaload, 1) := dk_46 (dk_at dksL_law_60 7 rfl rfl)
theorem dL_law_1552 : decode cL_law 1552 = .ok (.aload_n 0, 1) := dk_42 (dk_at dksL_law_60 8 rfl rfl)
theorem dL_law_1553 : decode cL_law 1553 = .ok (.iload 5, 2) := dk_21 5 (dk_at dksL_law_60 9 rfl rfl)
theorem dL_law_1555 : decode cL_law 1555 = .ok (.iconst 3, 1) := dk_6 (dk_at dksL_law_60 11 rfl rfl)
theorem dL_law_1556 : decode cL_law 1556 = .ok (.iadd, 1) := dk_96 (dk_at dksL_law_60 12 rfl rfl)
theorem dL_law_1557 : decode cL_law 1557 = .ok (.iaload, 1) := dk_46 (dk_at dksL_law_60 13 rfl rfl)
theorem dL_law_1558 : decode cL_law 1558 = .ok (.invokevirtual 216, 3) := dk_182 0 216 (dk_at dksL_law_60 14 rfl rfl)
theorem dL_law_1561 : decode cL_law 1561 = .ok (.istore 7, 2) := dk_54 7 (dk_at dksL_law_60 17 rfl rfl)
theorem dL_law_1563 : decode cL_law 1563 = .ok (.aload_n 2, 1) := dk_44 (dk_at dksL_law_60 19 rfl rfl)
theorem dL_law_1564 : decode cL_law 1564 = .ok (.invokevirtual 144, 3) := dk_182 0 144 (dk_at dksL_law_60 20 rfl rfl)
theorem dL_law_1567 : decode cL_law 1567 = .ok (.iload 6, 2) := dk_21 6 (dk_at dksL_law_61 0 rfl rfl)
theorem dL_law_1569 : decode cL_law 1569 = .ok (.if_icmp .eq 5, 3) := dk_159 0 5 (dk_at dksL_law_61 2 rfl rfl)
theorem dL_law_1572 : decode cL_law 1572 = .ok (.iconst 0, 1) := dk_3 (dk_at dksL_law_61 5 rfl rfl)
theorem dL_law_1573 : decode cL_law 1573 = .ok (.ireturn, 1) := dk_172 (dk_at dksL_law_61 6 rfl rfl)
theorem dL_law_1574 : decode cL_law 1574 = .ok (.iload 6, 2) := dk_21 6 (dk_at dksL_law_61 7 rfl rfl)
theorem dL_law_1576 : decode cL_law 1576 = .ok (.ifCond .ne 15, 3) := dk_154 0 15 (dk_at dksL_law_61 9 rfl rfl)
theorem dL_law_1579 : decode cL_law 1579 = .ok (.aload_n 3, 1) := dk_45 (dk_at dksL_law_61 12 rfl rfl)
theorem dL_law_1580 : decode cL_law 1580 = .ok (.iconst 0, 1) := dk_3 (dk_at dksL_law_61 13 rfl rfl)
theorem dL_law_1581 : decode cL_law 1581 = .ok (.laload, 1) := dk_47 (dk_at dksL_law_61 14 rfl rfl)
theorem dL_law_1582 : decode cL_law 1582 = .ok (.iload 7, 2) := dk_21 7 (dk_at dksL_law_61 15 rfl rfl)
theorem dL_law_1584 : decode cL_law 1584 = .ok (.i2l, 1) := dk_133 (dk_at dksL_law_61 17 rfl rfl)
theorem dL_law_1585 : decode cL_law 1585 = .ok (.lcmp, 1) := dk_148 (dk_at dksL_law_61 18 rfl rfl)
theorem dL_law_1586 : decode cL_law 1586 = .ok (.ifCond .eq 5, 3) := dk_153 0 5 (dk_at dksL_law_61 19 rfl rfl)
theorem dL_law_1589 : decode cL_law 1589 = .ok (.iconst 0, 1) := dk_3 (dk_at dksL_law_61 22 rfl rfl)
theorem dL_law_1590 : decode cL_law 1590 = .ok (.ireturn, 1) := dk_172 (dk_at dksL_law_61 23 rfl rfl)
theorem dL_law_1591 : decode cL_law 1591 = .ok (.goto 866, 3) := dk_167 3 98 (dk_at dksL_law_62 0 rfl rfl)
theorem dL_law_1594 : decode cL_law 1594 = .ok (.aload_n 1, 1) := dk_43 (dk_at dksL_law_62 3 rfl rfl)
theorem dL_law_1595 : decode cL_law 1595 = .ok (.aload_n 0, 1) := dk_42 (dk_at dksL_law_62 4 rfl rfl)
theorem dL_law_1596 : decode cL_law 1596 = .ok (.iload 5, 2) := dk_21 5 (dk_at dksL_law_62 5 rfl rfl)
theorem dL_law_1598 : decode cL_law 1598 = .ok (.iconst 1, 1) := dk_4 (dk_at dksL_law_62 7 rfl rfl)
theorem dL_law_1599 : decode cL_law 1599 = .ok (.iadd, 1) := dk_96 (dk_at dksL_law_62 8 rfl rfl)
theorem dL_law_1600 : decode cL_law 1600 = .ok (.iaload, 1) := dk_46 (dk_at dksL_law_62 9 rfl rfl)
theorem dL_law_1601 : decode cL_law 1601 = .ok (.aload_n 0, 1) := dk_42 (dk_at dksL_law_62 10 rfl rfl)
theorem dL_law_1602 : decode cL_law 1602 = .ok (.iload 5, 2) := dk_21 5 (dk_at dksL_law_62 11 rfl rfl)
theorem dL_law_1604 : decode cL_law 1604 = .ok (.iconst 2, 1) := dk_5 (dk_at dksL_law_62 13 rfl rfl)
theorem dL_law_1605 : decode cL_law 1605 = .ok (.iadd, 1) := dk_96 (dk_at dksL_law_62 14 rfl rfl)
theorem dL_law_1606 : decode cL_law 1606 = .ok (.iaload, 1) := dk_46 (dk_at dksL_law_62 15 rfl rfl)
theorem dL_law_1607 : decode cL_law 1607 = .ok (.aload_n 3, 1) := dk_45 (dk_at dksL_law_62 16 rfl rfl)
theorem dL_law_1608 : decode cL_law 1608 = .ok (.invokestatic 217, 3) := dk_184 0 217 (dk_at dksL_law_62 17 rfl rfl)
theorem dL_law_1611 : decode cL_law 1611 = .ok (.istore 6, 2) := dk_54 6 (dk_at dksL_law_62 20 rfl rfl)
theorem dL_law_1613 : decode cL_law 1613 = .ok (.aload_n 2, 1) := dk_44 (dk_at dksL_law_62 22 rfl rfl)
theorem dL_law_1614 : decode cL_law 1614 = .ok (.aload_n 0, 1) := dk_42 (dk_at dksL_law_62 23 rfl rfl)
theorem dL_law_1615 : decode cL_law 1615 = .ok (.iload 5, 2) := dk_21 5 (dk_at dksL_law_63 0 rfl rfl)
theorem dL_law_1617 : decode cL_law 1617 = .ok (.iconst 1, 1) := dk_4 (dk_at dksL_law_63 2 rfl rfl)
theorem dL_law_1618 : decode cL_law 1618 = .ok (.iadd, 1) := dk_96 (dk_at dksL_law_63 3 rfl rfl)
theorem dL_law_1619 : decode cL_law 1619 = .ok (.iaload, 1) := dk_46 (dk_at dksL_law_63 4 rfl rfl)
theorem dL_law_1620 : decode cL_law 1620 = .ok (.aload_n 0, 1) := dk_42 (dk_at dksL_law_63 5 rfl rfl)
theorem dL_law_1621 : decode cL_law 1621 = .ok (.iload 5, 2) := dk_21 5 (dk_at dksL_law_63 6 rfl rfl)
theorem dL_law_1623 : decode cL_law 1623 = .ok (.iconst 2, 1) := dk_5 (dk_at dksL_law_63 8 rfl rfl)
theorem dL_law_1624 : decode cL_law 1624 = .ok (.iadd, 1) := dk_96 (dk_at dksL_law_63 9 rfl rfl)
theorem dL_law_1625 : decode cL_law 1625 = .ok (.iaload, 1) := dk_46 (dk_at dksL_law_63 10 rfl rfl)
theorem dL_law_1626 : decode cL_law 1626 = .ok (.invokevirtual 219, 3) := dk_182 0 219 (dk_at dksL_law_63 11 rfl rfl)
theorem dL_law_1629 : decode cL_law 1629 = .ok (.istore 7, 2) := dk_54 7 (dk_at dksL_law_63 14 rfl rfl)
theorem dL_law_1631 : decode cL_law 1631 = .ok (.aload_n 2, 1) := dk_44 (dk_at dksL_law_63 16 rfl rfl)
theorem dL_law_1632 : decode cL_law 1632 = .ok (.invokevirtual 144, 3) := dk_182 0 144 (dk_at dksL_law_63 17 rfl rfl)
theorem dL_law_1635 : decode cL_law 1635 = .ok (.iload 6, 2) := dk_21 6 (dk_at dksL_law_63 20 rfl rfl)
theorem dL_law_1637 : decode cL_law 1637 = .ok (.if_icmp .eq 5, 3) := dk_159 0 5 (dk_at dksL_law_64 0 rfl rfl)
theorem dL_law_1640 : decode cL_law 1640 = .ok (.iconst 0, 1) := dk_3 (dk_at dksL_law_64 3 rfl rfl)
theorem dL_law_1641 : decode cL_law 1641 = .ok (.ireturn, 1) := dk_172 (dk_at dksL_law_64 4 rfl rfl)
theorem dL_law_1642 : decode cL_law 1642 = .ok (.iload 6, 2) := dk_21 6 (dk_at dksL_law_64 5 rfl rfl)
theorem dL_law_1644 : decode cL_law 1644 = .ok (.ifCond .ne 15, 3) := dk_154 0 15 (dk_at dksL_law_64 7 rfl rfl)
theorem dL_law_1647 : decode cL_law 1647 = .ok (.aload_n 3, 1) := dk_45 (dk_at dksL_law_64 10 rfl rfl)
theorem dL_law_1648 : decode cL_law 1648 = .ok (.iconst 0, 1) := dk_3 (dk_at dksL_law_64 11 rfl rfl)
theorem dL_law_1649 : decode cL_law 1649 = .ok (.laload, 1) := dk_47 (dk_at dksL_law_64 12 rfl rfl)
theorem dL_law_1650 : decode cL_law 1650 = .ok (.iload 7, 2) := dk_21 7 (dk_at dksL_law_64 13 rfl rfl)
theorem dL_law_1652 : decode cL_law 1652 = .ok (.i2l, 1) := dk_133 (dk_at dksL_law_64 15 rfl rfl)
theorem dL_law_1653 : decode cL_law 1653 = .ok (.lcmp, 1) := dk_148 (dk_at dksL_law_64 16 rfl rfl)
theorem dL_law_1654 : decode cL_law 1654 = .ok (.ifCond .eq 5, 3) := dk_153 0 5 (dk_at dksL_law_64 17 rfl rfl)
theorem dL_law_1657 : decode cL_law 1657 = .ok (.iconst 0, 1) := dk_3 (dk_at dksL_law_64 20 rfl rfl)
theorem dL_law_1658 : decode cL_law 1658 = .ok (.ireturn, 1) := dk_172 (dk_at dksL_law_64 21 rfl rfl)
theorem dL_law_1659 : decode cL_law 1659 = .ok (.goto 798, 3) := dk_167 3 30 (dk_at dksL_law_65 0 rfl rfl)
theorem dL_law_1662 : decode cL_law 1662 = .ok (.aload_n 1, 1) := dk_43 (dk_at dksL_law_65 3 rfl rfl)
theorem dL_law_1663 : decode cL_law 1663 = .ok (.aload_n 0, 1) := dk_42 (dk_at dksL_law_65 4 rfl rfl)
theorem dL_law_1664 : decode cL_law 1664 = .ok (.iload 5, 2) := dk_21 5 (dk_at dksL_law_65 5 rfl rfl)
theorem dL_law_1666 : decode cL_law 1666 = .ok (.iconst 1, 1) := dk_4 (dk_at dksL_law_65 7 rfl rfl)
theorem dL_law_1667 : decode cL_law 1667 = .ok (.iadd, 1) := dk_96 (dk_at dksL_law_65 8 rfl rfl)
theorem dL_law_1668 : decode cL_law 1668 = .ok (.iaload, 1) := dk_46 (dk_at dksL_law_65 9 rfl rfl)
theorem dL_law_1669 : decode cL_law 1669 = .ok (.aload_n 3, 1) := dk_45 (dk_at dksL_law_65 10 rfl rfl)
theorem dL_law_1670 : decode cL_law 1670 = .ok (.invokestatic 220, 3) := dk_184 0 220 (dk_at dksL_law_65 11 rfl rfl)
theorem dL_law_1673 : decode cL_law 1673 = .ok (.istore 6, 2) := dk_54 6 (dk_at dksL_law_65 14 rfl rfl)
theorem dL_law_1675 : decode cL_law 1675 = .ok (.aload_n 2, 1) := dk_44 (dk_at dksL_law_65 16 rfl rfl)
theorem dL_law_1676 : decode cL_law 1676 = .ok (.aload_n 0, 1) := dk_42 (dk_at dksL_law_65 17 rfl rfl)
theorem dL_law_1677 : decode cL_law 1677 = .ok (.iload 5, 2) := dk_21 5 (dk_at dksL_law_65 18 rfl rfl)
theorem dL_law_1679 : decode cL_law 1679 = .ok (.iconst 1, 1) := dk_4 (dk_at dksL_law_65 20 rfl rfl)
theorem dL_law_1680 : decode cL_law 1680 = .ok (.iadd, 1) := dk_96 (dk_at dksL_law_65 21 rfl rfl)
theorem dL_law_1681 : decode cL_law 1681 = .ok (.iaload, 1) := dk_46 (dk_at dksL_law_65 22 rfl rfl)
theorem dL_law_1682 : decode cL_law 1682 = .ok (.invokevirtual 222, 3) := dk_182 0 222 (dk_at dksL_law_66 0 rfl rfl)
theorem dL_law_1685 : decode cL_law 1685 = .ok (.istore 7, 2) := dk_54 7 (dk_at dksL_law_66 3 rfl rfl)
theorem dL_law_1687 : decode cL_law 1687 = .ok (.aload_n 2, 1) := dk_44 (dk_at dksL_law_66 5 rfl rfl)
theorem dL_law_1688 : decode cL_law 1688 = .ok (.invokevirtual 144, 3) := dk_182 0 144 (dk_at dksL_law_66 6 rfl rfl)
theorem dL_law_1691 : decode cL_law 1691 = .ok (.iload 6, 2) := dk_21 6 (dk_at dksL_law_66 9 rfl rfl)
theorem dL_law_1693 : decode cL_law 1693 = .ok (.if_icmp .eq 5, 3) := dk_159 0 5 (dk_at dksL_law_66 11 rfl rfl)
theorem dL_law_1696 : decode cL_law 1696 = .ok (.iconst 0, 1) := dk_3 (dk_at dksL_law_66 14 rfl rfl)
theorem dL_law_1697 : decode cL_law 1697 = .ok (.ireturn, 1) := dk_172 (dk_at dksL_law_66 15 rfl rfl)
theorem dL_law_1698 : decode cL_law 1698 = .ok (.iload 6, 2) := dk_21 6 (dk_at dksL_law_66 16 rfl rfl)
theorem dL_law_1700 : decode cL_law 1700 = .ok (.ifCond .ne 15, 3) := dk_154 0 15 (dk_at dksL_law_66 18 rfl rfl)
theorem dL_law_1703 : decode cL_law 1703 = .ok (.aload_n 3, 1) := dk_45 (dk_at dksL_law_66 21 rfl rfl)
theorem dL_law_1704 : decode cL_law 1704 = .ok (.iconst 0, 1) := dk_3 (dk_at dksL_law_66 22 rfl rfl)
theorem dL_law_1705 : decode cL_law 1705 = .ok (.laload, 1) := dk_47 (dk_at dksL_law_66 23 rfl rfl)
theorem dL_law_1706 : decode cL_law 1706 = .ok (.iload 7, 2) := dk_21 7 (dk_at dksL_law_67 0 rfl rfl)
theorem dL_law_1708 : decode cL_law 1708 = .ok (.i2l, 1) := dk_133 (dk_at dksL_law_67 2 rfl rfl)
theorem dL_law_1709 : decode cL_law 1709 = .ok (.lcmp, 1) := dk_148 (dk_at dksL_law_67 3 rfl rfl)
theorem dL_law_1710 : decode cL_law 1710 = .ok (.ifCond .eq 5, 3) := dk_153 0 5 (dk_at dksL_law_67 4 rfl rfl)
theorem dL_law_1713 : decode cL_law 1713 = .ok (.iconst 0, 1) := dk_3 (dk_at dksL_law_67 7 rfl rfl)
theorem dL_law_1714 : decode cL_law 1714 = .ok (.ireturn, 1) := dk_172 (dk_at dksL_law_67 8 rfl rfl)
theorem dL_law_1715 : decode cL_law 1715 = .ok (.goto 742, 3) := dk_167 2 230 (dk_at dksL_law_67 9 rfl rfl)
theorem dL_law_1718 : decode cL_law 1718 = .ok (.aload_n 1, 1) := dk_43 (dk_at dksL_law_67 12 rfl rfl)
theorem dL_law_1719 : decode cL_law 1719 = .ok (.aload_n 0, 1) := dk_42 (dk_at dksL_law_67 13 rfl rfl)
theorem dL_law_1720 : decode cL_law 1720 = .ok (.iload 5, 2) := dk_21 5 (dk_at dksL_law_67 14 rfl rfl)
theorem dL_law_1722 : decode cL_law 1722 = .ok (.iconst 1, 1) := dk_4 (dk_at dksL_law_67 16 rfl rfl)
theorem dL_law_1723 : decode cL_law 1723 = .ok (.iadd, 1) := dk_96 (dk_at dksL_law_67 17 rfl rfl)
theorem dL_law_1724 : decode cL_law 1724 = .ok (.iaload, 1) := dk_46 (dk_at dksL_law_67 18 rfl rfl)
theorem dL_law_1725 : decode cL_law 1725 = .ok (.i2c, 1) := dk_146 (dk_at dksL_law_67 19 rfl rfl)
theorem dL_law_1726 : decode cL_law 1726 = .ok (.aload_n 3, 1) := dk_45 (dk_at dksL_law_67 20 rfl rfl)
theorem dL_law_1727 : decode cL_law 1727 = .ok (.invokestatic 223, 3) := dk_184 0 223 (dk_at dksL_law_67 21 rfl rfl)
theorem dL_law_1730 : decode cL_law 1730 = .ok (.istore 6, 2) := dk_54 6 (dk_at dksL_law_68 0 rfl rfl)
theorem dL_law_1732 : decode cL_law 1732 = .ok (.aload_n 2, 1) := dk_44 (dk_at dksL_law_68 2 rfl rfl)
theorem dL_law_1733 : decode cL_law 1733 = .ok (.aload_n 0, 1) := dk_42 (dk_at dksL_law_68 3 rfl rfl)
theorem dL_law_1734 : decode cL_law 1734 = .ok (.iload 5, 2) := dk_21 5 (dk_at dksL_law_68 4 rfl rfl)
theorem dL_law_1736 : decode cL_law 1736 = .ok (.iconst 1, 1) := dk_4 (dk_at dksL_law_68 6 rfl rfl)
theorem dL_law_1737 : decode cL_law 1737 = .ok (.iadd, 1) := dk_96 (dk_at dksL_law_68 7 rfl rfl)
theorem dL_law_1738 : decode cL_law 1738 = .ok (.iaload, 1) := dk_46 (dk_at dksL_law_68 8 rfl rfl)
theorem dL_law_1739 : decode cL_law 1739 = .ok (.i2c, 1) := dk_146 (dk_at dksL_law_68 9 rfl rfl)
theorem dL_law_1740 : decode cL_law 1740 = .ok (.invokevirtual 226, 3) := dk_182 0 226 (dk_at dksL_law_68 10 rfl rfl)
theorem dL_law_1743 : decode cL_law 1743 = .ok (.istore 7, 2) := dk_54 7 (dk_at dksL_law_68 13 rfl rfl)
theorem dL_law_1745 : decode cL_law 1745 = .ok (.aload_n 2, 1) := dk_44 (dk_at dksL_law_68 15 rfl rfl)
theorem dL_law_1746 : decode cL_law 1746 = .ok (.invokevirtual 144, 3) := dk_182 0 144 (dk_at dksL_law_68 16 rfl rfl)
theorem dL_law_1749 : decode cL_law 1749 = .ok (.iload 6, 2) := dk_21 6 (dk_at dksL_law_68 19 rfl rfl)
theorem dL_law_1751 : decode cL_law 1751 = .ok (.if_icmp .eq 5, 3) := dk_159 0 5 (dk_at dksL_law_68 21 rfl rfl)
theorem dL_law_1754 : decode cL_law 1754 = .ok (.iconst 0, 1) := dk_3 (dk_at dksL_law_69 0 rfl rfl)
theorem dL_law_1755 : decode cL_law 1755 = .ok (.ireturn, 1) := dk_172 (dk_at dksL_law_69 1 rfl rfl)
theorem dL_law_1756 : decode cL_law 1756 = .ok (.iload 6, 2) := dk_21 6 (dk_at dksL_law_69 2 rfl rfl)
theorem dL_law_1758 : decode cL_law 1758 = .ok (.ifCond .ne 15, 3) := dk_154 0 15 (dk_at dksL_law_69 4 rfl rfl)
theorem dL_law_1761 : decode cL_law 1761 = .ok (.aload_n 3, 1) := dk_45 (dk_at dksL_law_69 7 rfl rfl)
theorem dL_law_1762 : decode cL_law 1762 = .ok (.iconst 0, 1) := dk_3 (dk_at dksL_law_69 8 rfl rfl)
theorem dL_law_1763 : decode cL_law 1763 = .ok (.laload, 1) := dk_47 (dk_at dksL_law_69 9 rfl rfl)
theorem dL_law_1764 : decode cL_law 1764 = .ok (.iload 7, 2) := dk_21 7 (dk_at dksL_law_69 10 rfl rfl)
theorem dL_law_1766 : decode cL_law 1766 = .ok (.i2l, 1) := dk_133 (dk_at dksL_law_69 12 rfl rfl)
theorem dL_law_1767 : decode cL_law 1767 = .ok (.lcmp, 1) := dk_148 (dk_at dksL_law_69 13 rfl rfl)
theorem dL_law_1768 : decode cL_law 1768 = .ok (.ifCond .eq 5, 3) := dk_153 0 5 (dk_at dksL_law_69 14 rfl rfl)
theorem dL_law_1771 : decode cL_law 1771 = .ok (.iconst 0, 1) := dk_3 (dk_at dksL_law_69 17 rfl rfl)
theorem dL_law_1772 : decode cL_law 1772 = .ok (.ireturn, 1) := dk_172 (dk_at dksL_law_69 18 rfl rfl)
theorem dL_law_1773 : decode cL_law 1773 = .ok (.goto 684, 3) := dk_167 2 172 (dk_at dksL_law_69 19 rfl rfl)
theorem dL_law_1776 : decode cL_law 1776 = .ok (.aload_n 1, 1) := dk_43 (dk_at dksL_law_69 22 rfl rfl)
theorem dL_law_1777 : decode cL_law 1777 = .ok (.aload_n 3, 1) := dk_45 (dk_at dksL_law_69 23 rfl rfl)
theorem dL_law_1778 : decode cL_law 1778 = .ok (.invokestatic 227, 3) := dk_184 0 227 (dk_at dksL_law_70 0 rfl rfl)
theorem dL_law_1781 : decode cL_law 1781 = .ok (.istore 6, 2) := dk_54 6 (dk_at dksL_law_70 3 rfl rfl)
theorem dL_law_1783 : decode cL_law 1783 = .ok (.aload_n 2, 1) := dk_44 (dk_at dksL_law_70 5 rfl rfl)
theorem dL_law_1784 : decode cL_law 1784 = .ok (.invokevirtual 229, 3) := dk_182 0 229 (dk_at dksL_law_70 6 rfl rfl)
theorem dL_law_1787 : decode cL_law 1787 = .ok (.istore 7, 2) := dk_54 7 (dk_at dksL_law_70 9 rfl rfl)
theorem dL_law_1789 : decode cL_law 1789 = .ok (.aload_n 2, 1) := dk_44 (dk_at dksL_law_70 11 rfl rfl)
theorem dL_law_1790 : decode cL_law 1790 = .ok (.invokevirtual 144, 3) := dk_182 0 144 (dk_at dksL_law_70 12 rfl rfl)
theorem dL_law_1793 : decode cL_law 1793 = .ok (.iload 6, 2) := dk_21 6 (dk_at dksL_law_70 15 rfl rfl)
theorem dL_law_1795 : decode cL_law 1795 = .ok (.if_icmp .eq 5, 3) := dk_159 0 5 (dk_at dksL_law_70 17 rfl rfl)
theorem dL_law_1798 : decode cL_law 1798 = .ok (.iconst 0, 1) := dk_3 (dk_at dksL_law_70 20 rfl rfl)
theorem dL_law_1799 : decode cL_law 1799 = .ok (.ireturn, 1) := dk_172 (dk_at dksL_law_70 21 rfl rfl)
theorem dL_law_1800 : decode cL_law 1800 = .ok (.iload 6, 2) := dk_21 6 (dk_at dksL_law_70 22 rfl rfl)
theorem dL_law_1802 : decode cL_law 1802 = .ok (.ifCond .ne 15, 3) := dk_154 0 15 (dk_at dksL_law_71 0 rfl rfl)
theorem dL_law_1805 : decode cL_law 1805 = .ok (.aload_n 3, 1) := dk_45 (dk_at dksL_law_71 3 rfl rfl)
theorem dL_law_1806 : decode cL_law 1806 = .ok (.iconst 0, 1) := dk_3 (dk_at dksL_law_71 4 rfl rfl)
theorem dL_law_1807 : decode cL_law 1807 = .ok (.laload, 1) := dk_47 (dk_at dksL_law_71 5 rfl rfl)
theorem dL_law_1808 : decode cL_law 1808 = .ok (.iload 7, 2) := dk_21 7 (dk_at dksL_law_71 6 rfl rfl)
theorem dL_law_1810 : decode cL_law 1810 = .ok (.i2l, 1) := dk_133 (dk_at dksL_law_71 8 rfl rfl)
theorem dL_law_1811 : decode cL_law 1811 = .ok (.lcmp, 1) := dk_148 (dk_at dksL_law_71 9 rfl rfl)
theorem dL_law_1812 : decode cL_law 1812 = .ok (.ifCond .eq 5, 3) := dk_153 0 5 (dk_at dksL_law_71 10 rfl rfl)
theorem dL_law_1815 : decode cL_law 1815 = .ok (.iconst 0, 1) := dk_3 (dk_at dksL_law_71 13 rfl rfl)
theorem dL_law_1816 : decode cL_law 1816 = .ok (.ireturn, 1) := dk_172 (dk_at dksL_law_71 14 rfl rfl)
theorem dL_law_1817 : decode cL_law 1817 = .ok (.goto 640, 3) := dk_167 2 128 (dk_at dksL_law_71 15 rfl rfl)
theorem dL_law_1820 : decode cL_law 1820 = .ok (.aload_n 1, 1) := dk_43 (dk_at dksL_law_71 18 rfl rfl)
theorem dL_law_1821 : decode cL_law 1821 = .ok (.aload_n 3, 1) := dk_45 (dk_at dksL_law_71 19 rfl rfl)
theorem dL_law_1822 : decode cL_law 1822 = .ok (.invokestatic 230, 3) := dk_184 0 230 (dk_at dksL_law_71 20 rfl rfl)
theorem dL_law_1825 : decode cL_law 1825 = .ok (.istore 6, 2) := dk_54 6 (dk_at dksL_law_72 0 rfl rfl)
theorem dL_law_1827 : decode cL_law 1827 = .ok (.aload_n 2, 1) := dk_44 (dk_at dksL_law_72 2 rfl rfl)
theorem dL_law_1828 : decode cL_law 1828 = .ok (.invokevirtual 232, 3) := dk_182 0 232 (dk_at dksL_law_72 3 rfl rfl)
theorem dL_law_1831 : decode cL_law 1831 = .ok (.istore 7, 2) := dk_54 7 (dk_at dksL_law_72 6 rfl rfl)
theorem dL_law_1833 : decode cL_law 1833 = .ok (.aload_n 2, 1) := dk_44 (dk_at dksL_law_72 8 rfl rfl)
theorem dL_law_1834 : decode cL_law 1834 = .ok (.invokevirtual 144, 3) := dk_182 0 144 (dk_at dksL_law_72 9 rfl rfl)
theorem dL_law_1837 : decode cL_law 1837 = .ok (.iload 6, 2) := dk_21 6 (dk_at dksL_law_72 12 rfl rfl)
theorem dL_law_1839 : decode cL_law 1839 = .ok (.if_icmp .eq 5, 3) := dk_159 0 5 (dk_at dksL_law_72 14 rfl rfl)
theorem dL_law_1842 : decode cL_law 1842 = .ok (.iconst 0, 1) := dk_3 (dk_at dksL_law_72 17 rfl rfl)
theorem dL_law_1843 : decode cL_law 1843 = .ok (.ireturn, 1) := dk_172 (dk_at dksL_law_72 18 rfl rfl)
theorem dL_law_1844 : decode cL_law 1844 = .ok (.iload 6, 2) := dk_21 6 (dk_at dksL_law_72 19 rfl rfl)
theorem dL_law_1846 : decode cL_law 1846 = .ok (.ifCond .ne 15, 3) := dk_154 0 15 (dk_at dksL_law_72 21 rfl rfl)
theorem dL_law_1849 : decode cL_law 1849 = .ok (.aload_n 3, 1) := dk_45 (dk_at dksL_law_73 0 rfl rfl)
theorem dL_law_1850 : decode cL_law 1850 = .ok (.iconst 0, 1) := dk_3 (dk_at dksL_law_73 1 rfl rfl)
theorem dL_law_1851 : decode cL_law 1851 = .ok (.laload, 1) := dk_47 (dk_at dksL_law_73 2 rfl rfl)
theorem dL_law_1852 : decode cL_law 1852 = .ok (.iload 7, 2) := dk_21 7 (dk_at dksL_law_73 3 rfl rfl)
theorem dL_law_1854 : decode cL_law 1854 = .ok (.i2l, 1) := dk_133 (dk_at dksL_law_73 5 rfl rfl)
theorem dL_law_1855 : decode cL_law 1855 = .ok (.lcmp, 1) := dk_148 (dk_at dksL_law_73 6 rfl rfl)
theorem dL_law_1856 : decode cL_law 1856 = .ok (.ifCond .eq 5, 3) := dk_153 0 5 (dk_at dksL_law_73 7 rfl rfl)
theorem dL_law_1859 : decode cL_law 1859 = .ok (.iconst 0, 1) := dk_3 (dk_at dksL_law_73 10 rfl rfl)
theorem dL_law_1860 : decode cL_law 1860 = .ok (.ireturn, 1) := dk_172 (dk_at dksL_law_73 11 rfl rfl)
theorem dL_law_1861 : decode cL_law 1861 = .ok (.goto 596, 3) := dk_167 2 84 (dk_at dksL_law_73 12 rfl rfl)
theorem dL_law_1864 : decode cL_law 1864 = .ok (.aload_n 1, 1) := dk_43 (dk_at dksL_law_73 15 rfl rfl)
theorem dL_law_1865 : decode cL_law 1865 = .ok (.aload_n 0, 1) := dk_42 (dk_at dksL_law_73 16 rfl rfl)
theorem dL_law_1866 : decode cL_law 1866 = .ok (.iload 5, 2) := dk_21 5 (dk_at dksL_law_73 17 rfl rfl)
theorem dL_law_1868 : decode cL_law 1868 = .ok (.iconst 1, 1) := dk_4 (dk_at dksL_law_73 19 rfl rfl)
theorem dL_law_1869 : decode cL_law 1869 = .ok (.iadd, 1) := dk_96 (dk_at dksL_law_73 20 rfl rfl)
theorem dL_law_1870 : decode cL_law 1870 = .ok (.iaload, 1) := dk_46 (dk_at dksL_law_73 21 rfl rfl)
theorem dL_law_1871 : decode cL_law 1871 = .ok (.ifCond .eq 7, 3) := dk_153 0 7 (dk_at dksL_law_74 0 rfl rfl)
theorem dL_law_1874 : decode cL_law 1874 = .ok (.iconst 1, 1) := dk_4 (dk_at dksL_law_74 3 rfl rfl)
theorem dL_law_1875 : decode cL_law 1875 = .ok (.goto 4, 3) := dk_167 0 4 (dk_at dksL_law_74 4 rfl rfl)
theorem dL_law_1878 : decode cL_law 1878 = .ok (.iconst 0, 1) := dk_3 (dk_at dksL_law_74 7 rfl rfl)
theorem dL_law_1879 : decode cL_law 1879 = .ok (.aload_n 0, 1) := dk_42 (dk_at dksL_law_74 8 rfl rfl)
theorem dL_law_1880 : decode cL_law 1880 = .ok (.iload 5, 2) := dk_21 5 (dk_at dksL_law_74 9 rfl rfl)
theorem dL_law_1882 : decode cL_law 1882 = .ok (.iconst 2, 1) := dk_5 (dk_at dksL_law_74 11 rfl rfl)
theorem dL_law_1883 : decode cL_law 1883 = .ok (.iadd, 1) := dk_96 (dk_at dksL_law_74 12 rfl rfl)
theorem dL_law_1884 : decode cL_law 1884 = .ok (.iaload, 1) := dk_46 (dk_at dksL_law_74 13 rfl rfl)
theorem dL_law_1885 : decode cL_law 1885 = .ok (.ifCond .eq 7, 3) := dk_153 0 7 (dk_at dksL_law_74 14 rfl rfl)
theorem dL_law_1888 : decode cL_law 1888 = .ok (.iconst 1, 1) := dk_4 (dk_at dksL_law_74 17 rfl rfl)
theorem dL_law_1889 : decode cL_law 1889 = .ok (.goto 4, 3) := dk_167 0 4 (dk_at dksL_law_74 18 rfl rfl)
theorem dL_law_1892 : decode cL_law 1892 = .ok (.iconst 0, 1) := dk_3 (dk_at dksL_law_74 21 rfl rfl)
theorem dL_law_1893 : decode cL_law 1893 = .ok (.aload_n 3, 1) := dk_45 (dk_at dksL_law_74 22 rfl rfl)
theorem dL_law_1894 : decode cL_law 1894 = .ok (.invokestatic 233, 3) := dk_184 0 233 (dk_at dksL_law_75 0 rfl rfl)
theorem dL_law_1897 : decode cL_law 1897 = .ok (.istore 6, 2) := dk_54 6 (dk_at dksL_law_75 3 rfl rfl)
theorem dL_law_1899 : decode cL_law 1899 = .ok (.aload_n 2, 1) := dk_44 (dk_at dksL_law_75 5 rfl rfl)
theorem dL_law_1900 : decode cL_law 1900 = .ok (.aload_n 0, 1) := dk_42 (dk_at dksL_law_75 6 rfl rfl)
theorem dL_law_1901 : decode cL_law 1901 = .ok (.iload 5, 2) := dk_21 5 (dk_at dksL_law_75 7 rfl rfl)
theorem dL_law_1903 : decode cL_law 1903 = .ok (.iconst 1, 1) := dk_4 (dk_at dksL_law_75 9 rfl rfl)
theorem dL_law_1904 : decode cL_law 1904 = .ok (.iadd, 1) := dk_96 (dk_at dksL_law_75 10 rfl rfl)
theorem dL_law_1905 : decode cL_law 1905 = .ok (.iaload, 1) := dk_46 (dk_at dksL_law_75 11 rfl rfl)
theorem dL_law_1906 : decode cL_law 1906 = .ok (.ifCond .eq 7, 3) := dk_153 0 7 (dk_at dksL_law_75 12 rfl rfl)
theorem dL_law_1909 : decode cL_law 1909 = .ok (.iconst 1, 1) := dk_4 (dk_at dksL_law_75 15 rfl rfl)
theorem dL_law_1910 : decode cL_law 1910 = .ok (.goto 4, 3) := dk_167 0 4 (dk_at dksL_law_75 16 rfl rfl)
theorem dL_law_1913 : decode cL_law 1913 = .ok (.iconst 0, 1) := dk_3 (dk_at dksL_law_75 19 rfl rfl)
theorem dL_law_1914 : decode cL_law 1914 = .ok (.aload_n 0, 1) := dk_42 (dk_at dksL_law_75 20 rfl rfl)
theorem dL_law_1915 : decode cL_law 1915 = .ok (.iload 5, 2) := dk_21 5 (dk_at dksL_law_75 21 rfl rfl)
theorem dL_law_1917 : decode cL_law 1917 = .ok (.iconst 2, 1) := dk_5 (dk_at dksL_law_75 23 rfl rfl)
theorem dL_law_1918 : decode cL_law 1918 = .ok (.iadd, 1) := dk_96 (dk_at dksL_law_76 0 rfl rfl)
theorem dL_law_1919 : decode cL_law 1919 = .ok (.iaload, 1) := dk_46 (dk_at dksL_law_76 1 rfl rfl)
theorem dL_law_1920 : decode cL_law 1920 = .ok (.ifCond .eq 7, 3) := dk_153 0 7 (dk_at dksL_law_76 2 rfl rfl)
theorem dL_law_1923 : decode cL_law 1923 = .ok (.iconst 1, 1) := dk_4 (dk_at dksL_law_76 5 rfl rfl)
theorem dL_law_1924 : decode cL_law 1924 = .ok (.goto 4, 3) := dk_167 0 4 (dk_at dksL_law_76 6 rfl rfl)
theorem dL_law_1927 : decode cL_law 1927 = .ok (.iconst 0, 1) := dk_3 (dk_at dksL_law_76 9 rfl rfl)
theorem dL_law_1928 : decode cL_law 1928 = .ok (.invokevirtual 236, 3) := dk_182 0 236 (dk_at dksL_law_76 10 rfl rfl)
theorem dL_law_1931 : decode cL_law 1931 = .ok (.istore 7, 2) := dk_54 7 (dk_at dksL_law_76 13 rfl rfl)
theorem dL_law_1933 : decode cL_law 1933 = .ok (.aload_n 2, 1) := dk_44 (dk_at dksL_law_76 15 rfl rfl)
theorem dL_law_1934 : decode cL_law 1934 = .ok (.invokevirtual 144, 3) := dk_182 0 144 (dk_at dksL_law_76 16 rfl rfl)
theorem dL_law_1937 : decode cL_law 1937 = .ok (.iload 6, 2) := dk_21 6 (dk_at dksL_law_76 19 rfl rfl)
theorem dL_law_1939 : decode cL_law 1939 = .ok (.if_icmp .eq 5, 3) := dk_159 0 5 (dk_at dksL_law_76 21 rfl rfl)
theorem dL_law_1942 : decode cL_law 1942 = .ok (.iconst 0, 1) := dk_3 (dk_at dksL_law_77 0 rfl rfl)
theorem dL_law_1943 : decode cL_law 1943 = .ok (.ireturn, 1) := dk_172 (dk_at dksL_law_77 1 rfl rfl)
theorem dL_law_1944 : decode cL_law 1944 = .ok (.iload 6, 2) := dk_21 6 (dk_at dksL_law_77 2 rfl rfl)
theorem dL_law_1946 : decode cL_law 1946 = .ok (.ifCond .ne 15, 3) := dk_154 0 15 (dk_at dksL_law_77 4 rfl rfl)
theorem dL_law_1949 : decode cL_law 1949 = .ok (.aload_n 3, 1) := dk_45 (dk_at dksL_law_77 7 rfl rfl)
theorem dL_law_1950 : decode cL_law 1950 = .ok (.iconst 0, 1) := dk_3 (dk_at dksL_law_77 8 rfl rfl)
theorem dL_law_1951 : decode cL_law 1951 = .ok (.laload, 1) := dk_47 (dk_at dksL_law_77 9 rfl rfl)
theorem dL_law_1952 : decode cL_law 1952 = .ok (.iload 7, 2) := dk_21 7 (dk_at dksL_law_77 10 rfl rfl)
theorem dL_law_1954 : decode cL_law 1954 = .ok (.i2l, 1) := dk_133 (dk_at dksL_law_77 12 rfl rfl)
theorem dL_law_1955 : decode cL_law 1955 = .ok (.lcmp, 1) := dk_148 (dk_at dksL_law_77 13 rfl rfl)
theorem dL_law_1956 : decode cL_law 1956 = .ok (.ifCond .eq 5, 3) := dk_153 0 5 (dk_at dksL_law_77 14 rfl rfl)
theorem dL_law_1959 : decode cL_law 1959 = .ok (.iconst 0, 1) := dk_3 (dk_at dksL_law_77 17 rfl rfl)
theorem dL_law_1960 : decode cL_law 1960 = .ok (.ireturn, 1) := dk_172 (dk_at dksL_law_77 18 rfl rfl)
theorem dL_law_1961 : decode cL_law 1961 = .ok (.goto 496, 3) := dk_167 1 240 (dk_at dksL_law_77 19 rfl rfl)
theorem dL_law_1964 : decode cL_law 1964 = .ok (.aload_n 1, 1) := dk_43 (dk_at dksL_law_77 22 rfl rfl)
theorem dL_law_1965 : decode cL_law 1965 = .ok (.aload_n 0, 1) := dk_42 (dk_at dksL_law_77 23 rfl rfl)
theorem dL_law_1966 : decode cL_law 1966 = .ok (.iload 5, 2) := dk_21 5 (dk_at dksL_law_78 0 rfl rfl)
theorem dL_law_1968 : decode cL_law 1968 = .ok (.iconst 1, 1) := dk_4 (dk_at dksL_law_78 2 rfl rfl)
theorem dL_law_1969 : decode cL_law 1969 = .ok (.iadd, 1) := dk_96 (dk_at dksL_law_78 3 rfl rfl)
theorem dL_law_1970 : decode cL_law 1970 = .ok (.iaload, 1) := dk_46 (dk_at dksL_law_78 4 rfl rfl)
theorem dL_law_1971 : decode cL_law 1971 = .ok (.aload_n 3, 1) := dk_45 (dk_at dksL_law_78 5 rfl rfl)
theorem dL_law_1972 : decode cL_law 1972 = .ok (.invokestatic 237, 3) := dk_184 0 237 (dk_at dksL_law_78 6 rfl rfl)
theorem dL_law_1975 : decode cL_law 1975 = .ok (.istore 6, 2) := dk_54 6 (dk_at dksL_law_78 9 rfl rfl)
theorem dL_law_1977 : decode cL_law 1977 = .ok (.aload_n 2, 1) := dk_44 (dk_at dksL_law_78 11 rfl rfl)
theorem dL_law_1978 : decode cL_law 1978 = .ok (.aload_n 0, 1) := dk_42 (dk_at dksL_law_78 12 rfl rfl)
theorem dL_law_1979 : decode cL_law 1979 = .ok (.iload 5, 2) := dk_21 5 (dk_at dksL_law_78 13 rfl rfl)
theorem dL_law_1981 : decode cL_law 1981 = .ok (.iconst 1, 1) := dk_4 (dk_at dksL_law_78 15 rfl rfl)
theorem dL_law_1982 : decode cL_law 1982 = .ok (.iadd, 1) := dk_96 (dk_at dksL_law_78 16 rfl rfl)
theorem dL_law_1983 : decode cL_law 1983 = .ok (.iaload, 1) := dk_46 (dk_at dksL_law_78 17 rfl rfl)
theorem dL_law_1984 : decode cL_law 1984 = .ok (.invokevirtual 239, 3) := dk_182 0 239 (dk_at dksL_law_78 18 rfl rfl)
theorem dL_law_1987 : decode cL_law 1987 = .ok (.istore 7, 2) := dk_54 7 (dk_at dksL_law_78 21 rfl rfl)
theorem dL_law_1989 : decode cL_law 1989 = .ok (.aload_n 2, 1) := dk_44 (dk_at dksL_law_78 23 rfl rfl)
theorem dL_law_1990 : decode cL_law 1990 = .ok (.invokevirtual 144, 3) := dk_182 0 144 (dk_at dksL_law_79 0 rfl rfl)
theorem dL_law_1993 : decode cL_law 1993 = .ok (.iload 6, 2) := dk_21 6 (dk_at dksL_law_79 3 rfl rfl)
theorem dL_law_1995 : decode cL_law 1995 = .ok (.if_icmp .eq 5, 3) := dk_159 0 5 (dk_at dksL_law_79 5 rfl rfl)
theorem dL_law_1998 : decode cL_law 1998 = .ok (.iconst 0, 1) := dk_3 (dk_at dksL_law_79 8 rfl rfl)
theorem dL_law_1999 : decode cL_law 1999 = .ok (.ireturn, 1) := dk_172 (dk_at dksL_law_79 9 rfl rfl)
theorem dL_law_2000 : decode cL_law 2000 = .ok (.iload 6, 2) := dk_21 6 (dk_at dksL_law_79 10 rfl rfl)
theorem dL_law_2002 : decode cL_law 2002 = .ok (.ifCond .ne 15, 3) := dk_154 0 15 (dk_at dksL_law_79 12 rfl rfl)
theorem dL_law_2005 : decode cL_law 2005 = .ok (.aload_n 3, 1) := dk_45 (dk_at dksL_law_79 15 rfl rfl)
theorem dL_law_2006 : decode cL_law 2006 = .ok (.iconst 0, 1) := dk_3 (dk_at dksL_law_79 16 rfl rfl)
theorem dL_law_2007 : decode cL_law 2007 = .ok (.laload, 1) := dk_47 (dk_at dksL_law_79 17 rfl rfl)
theorem dL_law_2008 : decode cL_law 2008 = .ok (.iload 7, 2) := dk_21 7 (dk_at dksL_law_79 18 rfl rfl)
theorem dL_law_2010 : decode cL_law 2010 = .ok (.i2l, 1) := dk_133 (dk_at dksL_law_79 20 rfl rfl)
theorem dL_law_2011 : decode cL_law 2011 = .ok (.lcmp, 1) := dk_148 (dk_at dksL_law_79 21 rfl rfl)
theorem dL_law_2012 : decode cL_law 2012 = .ok (.ifCond .eq 5, 3) := dk_153 0 5 (dk_at dksL_law_80 0 rfl rfl)
theorem dL_law_2015 : decode cL_law 2015 = .ok (.iconst 0, 1) := dk_3 (dk_at dksL_law_80 3 rfl rfl)
theorem dL_law_2016 : decode cL_law 2016 = .ok (.ireturn, 1) := dk_172 (dk_at dksL_law_80 4 rfl rfl)
theorem dL_law_2017 : decode cL_law 2017 = .ok (.goto 440, 3) := dk_167 1 184 (dk_at dksL_law_80 5 rfl rfl)
theorem dL_law_2020 : decode cL_law 2020 = .ok (.aload_n 1, 1) := dk_43 (dk_at dksL_law_80 8 rfl rfl)
theorem dL_law_2021 : decode cL_law 2021 = .ok (.aload_n 0, 1) := dk_42 (dk_at dksL_law_80 9 rfl rfl)
theorem dL_law_2022 : decode cL_law 2022 = .ok (.iload 5, 2) := dk_21 5 (dk_at dksL_law_80 10 rfl rfl)
theorem dL_law_2024 : decode cL_law 2024 = .ok (.iconst 1, 1) := dk_4 (dk_at dksL_law_80 12 rfl rfl)
theorem dL_law_2025 : decode cL_law 2025 = .ok (.iadd, 1) := dk_96 (dk_at dksL_law_80 13 rfl rfl)
theorem dL_law_2026 : decode cL_law 2026 = .ok (.iaload, 1) := dk_46 (dk_at dksL_law_80 14 rfl rfl)
theorem dL_law_2027 : decode cL_law 2027 = .ok (.aload_n 0, 1) := dk_42 (dk_at dksL_law_80 15 rfl rfl)
theorem dL_law_2028 : decode cL_law 2028 = .ok (.iload 5, 2) := dk_21 5 (dk_at dksL_law_80 16 rfl rfl)
theorem dL_law_2030 : decode cL_law 2030 = .ok (.iconst 2, 1) := dk_5 (dk_at dksL_law_80 18 rfl rfl)
theorem dL_law_2031 : decode cL_law 2031 = .ok (.iadd, 1) := dk_96 (dk_at dksL_law_80 19 rfl rfl)
theorem dL_law_2032 : decode cL_law 2032 = .ok (.iaload, 1) := dk_46 (dk_at dksL_law_80 20 rfl rfl)
theorem dL_law_2033 : decode cL_law 2033 = .ok (.aload_n 3, 1) := dk_45 (dk_at dksL_law_80 21 rfl rfl)
theorem dL_law_2034 : decode cL_law 2034 = .ok (.invokestatic 240, 3) := dk_184 0 240 (dk_at dksL_law_81 0 rfl rfl)
theorem dL_law_2037 : decode cL_law 2037 = .ok (.istore 6, 2) := dk_54 6 (dk_at dksL_law_81 3 rfl rfl)
theorem dL_law_2039 : decode cL_law 2039 = .ok (.aload_n 2, 1) := dk_44 (dk_at dksL_law_81 5 rfl rfl)
theorem dL_law_2040 : decode cL_law 2040 = .ok (.aload_n 0, 1) := dk_42 (dk_at dksL_law_81 6 rfl rfl)
theorem dL_law_2041 : decode cL_law 2041 = .ok (.iload 5, 2) := dk_21 5 (dk_at dksL_law_81 7 rfl rfl)
theorem dL_law_2043 : decode cL_law 2043 = .ok (.iconst 1, 1) := dk_4 (dk_at dksL_law_81 9 rfl rfl)
theorem dL_law_2044 : decode cL_law 2044 = .ok (.iadd, 1) := dk_96 (dk_at dksL_law_81 10 rfl rfl)
theorem dL_law_2045 : decode cL_law 2045 = .ok (.iaload, 1) := dk_46 (dk_at dksL_law_81 11 rfl rfl)
theorem dL_law_2046 : decode cL_law 2046 = .ok (.aload_n 0, 1) := dk_42 (dk_at dksL_law_81 12 rfl rfl)
theorem dL_law_2047 : decode cL_law 2047 = .ok (.iload 5, 2) := dk_21 5 (dk_at dksL_law_81 13 rfl rfl)
theorem dL_law_2049 : decode cL_law 2049 = .ok (.iconst 2, 1) := dk_5 (dk_at dksL_law_81 15 rfl rfl)
theorem dL_law_2050 : decode cL_law 2050 = .ok (.iadd, 1) := dk_96 (dk_at dksL_law_81 16 rfl rfl)
theorem dL_law_2051 : decode cL_law 2051 = .ok (.iaload, 1) := dk_46 (dk_at dksL_law_81 17 rfl rfl)
theorem dL_law_2052 : decode cL_law 2052 = .ok (.invokevirtual 242, 3) := dk_182 0 242 (dk_at dksL_law_81 18 rfl rfl)
theorem dL_law_2055 : decode cL_law 2055 = .ok (.istore 7, 2) := dk_54 7 (dk_at dksL_law_81 21 rfl rfl)
theorem dL_law_2057 : decode cL_law 2057 = .ok (.aload_n 2, 1) := dk_44 (dk_at dksL_law_81 23 rfl rfl)
theorem dL_law_2058 : decode cL_law 2058 = .ok (.invokevirtual 144, 3) := dk_182 0 144 (dk_at dksL_law_82 0 rfl rfl)
theorem dL_law_2061 : decode cL_law 2061 = .ok (.iload 6, 2) := dk_21 6 (dk_at dksL_law_82 3 rfl rfl)
theorem dL_law_2063 : decode cL_law 2063 = .ok (.if_icmp .eq 5, 3) := dk_159 0 5 (dk_at dksL_law_82 5 rfl rfl)
theorem dL_law_2066 : decode cL_law 2066 = .ok (.iconst 0, 1) := dk_3 (dk_at dksL_law_82 8 rfl rfl)
theorem dL_law_2067 : decode cL_law 2067 = .ok (.ireturn, 1) := dk_172 (dk_at dksL_law_82 9 rfl rfl)
theorem dL_law_2068 : decode cL_law 2068 = .ok (.iload 6, 2) := dk_21 6 (dk_at dksL_law_82 10 rfl rfl)
theorem dL_law_2070 : decode cL_law 2070 = .ok (.ifCond .ne 15, 3) := dk_154 0 15 (dk_at dksL_law_82 12 rfl rfl)
theorem dL_law_2073 : decode cL_law 2073 = .ok (.aload_n 3, 1) := dk_45 (dk_at dksL_law_82 15 rfl rfl)
theorem dL_law_2074 : decode cL_law 2074 = .ok (.iconst 0, 1) := dk_3 (dk_at dksL_law_82 16 rfl rfl)
theorem dL_law_2075 : decode cL_law 2075 = .ok (.laload, 1) := dk_47 (dk_at dksL_law_82 17 rfl rfl)
theorem dL_law_2076 : decode cL_law 2076 = .ok (.iload 7, 2) := dk_21 7 (dk_at dksL_law_82 18 rfl rfl)
theorem dL_law_2078 : decode cL_law 2078 = .ok (.i2l, 1) := dk_133 (dk_at dksL_law_82 20 rfl rfl)
theorem dL_law_2079 : decode cL_law 2079 = .ok (.lcmp, 1) := dk_148 (dk_at dksL_law_82 21 rfl rfl)
theorem dL_law_2080 : decode cL_law 2080 = .ok (.ifCond .eq 5, 3) := dk_153 0 5 (dk_at dksL_law_83 0 rfl rfl)
theorem dL_law_2083 : decode cL_law 2083 = .ok (.iconst 0, 1) := dk_3 (dk_at dksL_law_83 3 rfl rfl)
theorem dL_law_2084 : decode cL_law 2084 = .ok (.ireturn, 1) := dk_172 (dk_at dksL_law_83 4 rfl rfl)
theorem dL_law_2085 : decode cL_law 2085 = .ok (.goto 372, 3) := dk_167 1 116 (dk_at dksL_law_83 5 rfl rfl)
theorem dL_law_2088 : decode cL_law 2088 = .ok (.aload_n 1, 1) := dk_43 (dk_at dksL_law_83 8 rfl rfl)
theorem dL_law_2089 : decode cL_law 2089 = .ok (.aload_n 0, 1) := dk_42 (dk_at dksL_law_83 9 rfl rfl)
theorem dL_law_2090 : decode cL_law 2090 = .ok (.iload 5, 2) := dk_21 5 (dk_at dksL_law_83 10 rfl rfl)
theorem dL_law_2092 : decode cL_law 2092 = .ok (.iconst 1, 1) := dk_4 (dk_at dksL_law_83 12 rfl rfl)
theorem dL_law_2093 : decode cL_law 2093 = .ok (.iadd, 1) := dk_96 (dk_at dksL_law_83 13 rfl rfl)
theorem dL_law_2094 : decode cL_law 2094 = .ok (.iaload, 1) := dk_46 (dk_at dksL_law_83 14 rfl rfl)
theorem dL_law_2095 : decode cL_law 2095 = .ok (.aload_n 3, 1) := dk_45 (dk_at dksL_law_83 15 rfl rfl)
theorem dL_law_2096 : decode cL_law 2096 = .ok (.invokestatic 243, 3) := dk_184 0 243 (dk_at dksL_law_83 16 rfl rfl)
theorem dL_law_2099 : decode cL_law 2099 = .ok (.istore 6, 2) := dk_54 6 (dk_at dksL_law_83 19 rfl rfl)
theorem dL_law_2101 : decode cL_law 2101 = .ok (.aload_n 2, 1) := dk_44 (dk_at dksL_law_83 21 rfl rfl)
theorem dL_law_2102 : decode cL_law 2102 = .ok (.aload_n 0, 1) := dk_42 (dk_at dksL_law_83 22 rfl rfl)
theorem dL_law_2103 : decode cL_law 2103 = .ok (.iload 5, 2) := dk_21 5 (dk_at dksL_law_84 0 rfl rfl)
theorem dL_law_2105 : decode cL_law 2105 = .ok (.iconst 1, 1) := dk_4 (dk_at dksL_law_84 2 rfl rfl)
theorem dL_law_2106 : decode cL_law 2106 = .ok (.iadd, 1) := dk_96 (dk_at dksL_law_84 3 rfl rfl)
theorem dL_law_2107 : decode cL_law 2107 = .ok (.iaload, 1) := dk_46 (dk_at dksL_law_84 4 rfl rfl)
theorem dL_law_2108 : decode cL_law 2108 = .ok (.invokevirtual 245, 3) := dk_182 0 245 (dk_at dksL_law_84 5 rfl rfl)
theorem dL_law_2111 : decode cL_law 2111 = .ok (.istore 7, 2) := dk_54 7 (dk_at dksL_law_84 8 rfl rfl)
theorem dL_law_2113 : decode cL_law 2113 = .ok (.aload_n 2, 1) := dk_44 (dk_at dksL_law_84 10 rfl rfl)
theorem dL_law_2114 : decode cL_law 2114 = .ok (.invokevirtual 144, 3) := dk_182 0 144 (dk_at dksL_law_84 11 rfl rfl)
theorem dL_law_2117 : decode cL_law 2117 = .ok (.iload 6, 2) := dk_21 6 (dk_at dksL_law_84 14 rfl rfl)
theorem dL_law_2119 : decode cL_law 2119 = .ok (.if_icmp .eq 5, 3) := dk_159 0 5 (dk_at dksL_law_84 16 rfl rfl)
theorem dL_law_2122 : decode cL_law 2122 = .ok (.iconst 0, 1) := dk_3 (dk_at dksL_law_84 19 rfl rfl)
theorem dL_law_2123 : decode cL_law 2123 = .ok (.ireturn, 1) := dk_172 (dk_at dksL_law_84 20 rfl rfl)
theorem dL_law_2124 : decode cL_law 2124 = .ok (.iload 6, 2) := dk_21 6 (dk_at dksL_law_84 21 rfl rfl)
theorem dL_law_2126 : decode cL_law 2126 = .ok (.ifCond .ne 15, 3) := dk_154 0 15 (dk_at dksL_law_85 0 rfl rfl)
theorem dL_law_2129 : decode cL_law 2129 = .ok (.aload_n 3, 1) := dk_45 (dk_at dksL_law_85 3 rfl rfl)
theorem dL_law_2130 : decode cL_law 2130 = .ok (.iconst 0, 1) := dk_3 (dk_at dksL_law_85 4 rfl rfl)
theorem dL_law_2131 : decode cL_law 2131 = .ok (.laload, 1) := dk_47 (dk_at dksL_law_85 5 rfl rfl)
theorem dL_law_2132 : decode cL_law 2132 = .ok (.iload 7, 2) := dk_21 7 (dk_at dksL_law_85 6 rfl rfl)
theorem dL_law_2134 : decode cL_law 2134 = .ok (.i2l, 1) := dk_133 (dk_at dksL_law_85 8 rfl rfl)
theorem dL_law_2135 : decode cL_law 2135 = .ok (.lcmp, 1) := dk_148 (dk_at dksL_law_85 9 rfl rfl)
theorem dL_law_2136 : decode cL_law 2136 = .ok (.ifCond .eq 5, 3) := dk_153 0 5 (dk_at dksL_law_85 10 rfl rfl)
theorem dL_law_2139 : decode cL_law 2139 = .ok (.iconst 0, 1) := dk_3 (dk_at dksL_law_85 13 rfl rfl)
theorem dL_law_2140 : decode cL_law 2140 = .ok (.ireturn, 1) := dk_172 (dk_at dksL_law_85 14 rfl rfl)
theorem dL_law_2141 : decode cL_law 2141 = .ok (.goto 316, 3) := dk_167 1 60 (dk_at dksL_law_85 15 rfl rfl)
theorem dL_law_2144 : decode cL_law 2144 = .ok (.aload_n 1, 1) := dk_43 (dk_at dksL_law_85 18 rfl rfl)
theorem dL_law_2145 : decode cL_law 2145 = .ok (.aload_n 0, 1) := dk_42 (dk_at dksL_law_85 19 rfl rfl)
theorem dL_law_2146 : decode cL_law 2146 = .ok (.iload 5, 2) := dk_21 5 (dk_at dksL_law_85 20 rfl rfl)
theorem dL_law_2148 : decode cL_law 2148 = .ok (.iconst 1, 1) := dk_4 (dk_at dksL_law_85 22 rfl rfl)
theorem dL_law_2149 : decode cL_law 2149 = .ok (.iadd, 1) := dk_96 (dk_at dksL_law_85 23 rfl rfl)
theorem dL_law_2150 : decode cL_law 2150 = .ok (.iaload, 1) := dk_46 (dk_at dksL_law_86 0 rfl rfl)
theorem dL_law_2151 : decode cL_law 2151 = .ok (.aload_n 3, 1) := dk_45 (dk_at dksL_law_86 1 rfl rfl)
theorem dL_law_2152 : decode cL_law 2152 = .ok (.invokestatic 246, 3) := dk_184 0 246 (dk_at dksL_law_86 2 rfl rfl)
theorem dL_law_2155 : decode cL_law 2155 = .ok (.istore 6, 2) := dk_54 6 (dk_at dksL_law_86 5 rfl rfl)
theorem dL_law_2157 : decode cL_law 2157 = .ok (.aload_n 2, 1) := dk_44 (dk_at dksL_law_86 7 rfl rfl)
theorem dL_law_2158 : decode cL_law 2158 = .ok (.aload_n 0, 1) := dk_42 (dk_at dksL_law_86 8 rfl rfl)
theorem dL_law_2159 : decode cL_law 2159 = .ok (.iload 5, 2) := dk_21 5 (dk_at dksL_law_86 9 rfl rfl)
theorem dL_law_2161 : decode cL_law 2161 = .ok (.iconst 1, 1) := dk_4 (dk_at dksL_law_86 11 rfl rfl)
theorem dL_law_2162 : decode cL_law 2162 = .ok (.iadd, 1) := dk_96 (dk_at dksL_law_86 12 rfl rfl)
theorem dL_law_2163 : decode cL_law 2163 = .ok (.iaload, 1) := dk_46 (dk_at dksL_law_86 13 rfl rfl)
theorem dL_law_2164 : decode cL_law 2164 = .ok (.invokevirtual 248, 3) := dk_182 0 248 (dk_at dksL_law_86 14 rfl rfl)
theorem dL_law_2167 : decode cL_law 2167 = .ok (.istore 7, 2) := dk_54 7 (dk_at dksL_law_86 17 rfl rfl)
theorem dL_law_2169 : decode cL_law 2169 = .ok (.aload_n 2, 1) := dk_44 (dk_at dksL_law_86 19 rfl rfl)
theorem dL_law_2170 : decode cL_law 2170 = .ok (.invokevirtual 144, 3) := dk_182 0 144 (dk_at dksL_law_86 20 rfl rfl)
theorem dL_law_2173 : decode cL_law 2173 = .ok (.iload 6, 2) := dk_21 6 (dk_at dksL_law_87 0 rfl rfl)
theorem dL_law_2175 : decode cL_law 2175 = .ok (.if_icmp .eq 5, 3) := dk_159 0 5 (dk_at dksL_law_87 2 rfl rfl)
theorem dL_law_2178 : decode cL_law 2178 = .ok (.iconst 0, 1) := dk_3 (dk_at dksL_law_87 5 rfl rfl)
theorem dL_law_2179 : decode cL_law 2179 = .ok (.ireturn, 1) := dk_172 (dk_at dksL_law_87 6 rfl rfl)
theorem dL_law_2180 : decode cL_law 2180 = .ok (.iload 6, 2) := dk_21 6 (dk_at dksL_law_87 7 rfl rfl)
theorem dL_law_2182 : decode cL_law 2182 = .ok (.ifCond .ne 15, 3) := dk_154 0 15 (dk_at dksL_law_87 9 rfl rfl)
theorem dL_law_2185 : decode cL_law 2185 = .ok (.aload_n 3, 1) := dk_45 (dk_at dksL_law_87 12 rfl rfl)
theorem dL_law_2186 : decode cL_law 2186 = .ok (.iconst 0, 1) := dk_3 (dk_at dksL_law_87 13 rfl rfl)
theorem dL_law_2187 : decode cL_law 2187 = .ok (.laload, 1) := dk_47 (dk_at dksL_law_87 14 rfl rfl)
theorem dL_law_2188 : decode cL_law 2188 = .ok (.iload 7, 2) := dk_21 7 (dk_at dksL_law_87 15 rfl rfl)
theorem dL_law_2190 : decode cL_law 2190 = .ok (.i2l, 1) := dk_133 (dk_at dksL_law_87 17 rfl rfl)
theorem dL_law_2191 : decode cL_law 2191 = .ok (.lcmp, 1) := dk_148 (dk_at dksL_law_87 18 rfl rfl)
theorem dL_law_2192 : decode cL_law 2192 = .ok (.ifCond .eq 5, 3) := dk_153 0 5 (dk_at dksL_law_87 19 rfl rfl)
theorem dL_law_2195 : decode cL_law 2195 = .ok (.iconst 0, 1) := dk_3 (dk_at dksL_law_87 22 rfl rfl)
theorem dL_law_2196 : decode cL_law 2196 = .ok (.ireturn, 1) := dk_172 (dk_at dksL_law_87 23 rfl rfl)
theorem dL_law_2197 : decode cL_law 2197 = .ok (.goto 260, 3) := dk_167 1 4 (dk_at dksL_law_88 0 rfl rfl)
theorem dL_law_2200 : decode cL_law 2200 = .ok (.aload_n 1, 1) := dk_43 (dk_at dksL_law_88 3 rfl rfl)
theorem dL_law_2201 : decode cL_law 2201 = .ok (.invokevirtual 249, 3) := dk_182 0 249 (dk_at dksL_law_88 4 rfl rfl)
theorem dL_law_2204 : decode cL_law 2204 = .ok (.aload_n 2, 1) := dk_44 (dk_at dksL_law_88 7 rfl rfl)
theorem dL_law_2205 : decode cL_law 2205 = .ok (.invokevirtual 253, 3) := dk_182 0 253 (dk_at dksL_law_88 8 rfl rfl)
theorem dL_law_2208 : decode cL_law 2208 = .ok (.if_icmp .eq 249, 3) := dk_159 0 249 (dk_at dksL_law_88 11 rfl rfl)
theorem dL_law_2211 : decode cL_law 2211 = .ok (.iconst 0, 1) := dk_3 (dk_at dksL_law_88 14 rfl rfl)
theorem dL_law_2212 : decode cL_law 2212 = .ok (.ireturn, 1) := dk_172 (dk_at dksL_law_88 15 rfl rfl)
theorem dL_law_2213 : decode cL_law 2213 = .ok (.aload_n 1, 1) := dk_43 (dk_at dksL_law_88 16 rfl rfl)
theorem dL_law_2214 : decode cL_law 2214 = .ok (.aload 4, 2) := dk_25 4 (dk_at dksL_law_88 17 rfl rfl)
theorem dL_law_2216 : decode cL_law 2216 = .ok (.invokestatic 254, 3) := dk_184 0 254 (dk_at dksL_law_88 19 rfl rfl)
theorem dL_law_2219 : decode cL_law 2219 = .ok (.istore 6, 2) := dk_54 6 (dk_at dksL_law_88 22 rfl rfl)
theorem dL_law_2221 : decode cL_law 2221 = .ok (.aload_n 2, 1) := dk_44 (dk_at dksL_law_89 0 rfl rfl)
theorem dL_law_2222 : decode cL_law 2222 = .ok (.invokevirtual 257, 3) := dk_182 1 1 (dk_at dksL_law_89 1 rfl rfl)
theorem dL_law_2225 : decode cL_law 2225 = .ok (.dstore 7, 2) := dk_57 7 (dk_at dksL_law_89 4 rfl rfl)
theorem dL_law_2227 : decode cL_law 2227 = .ok (.aload_n 2, 1) := dk_44 (dk_at dksL_law_89 6 rfl rfl)
theorem dL_law_2228 : decode cL_law 2228 = .ok (.invokevirtual 144, 3) := dk_182 0 144 (dk_at dksL_law_89 7 rfl rfl)
theorem dL_law_2231 : decode cL_law 2231 = .ok (.iload 6, 2) := dk_21 6 (dk_at dksL_law_89 10 rfl rfl)
theorem dL_law_2233 : decode cL_law 2233 = .ok (.if_icmp .eq 5, 3) := dk_159 0 5 (dk_at dksL_law_89 12 rfl rfl)
theorem dL_law_2236 : decode cL_law 2236 = .ok (.iconst 0, 1) := dk_3 (dk_at dksL_law_89 15 rfl rfl)
theorem dL_law_2237 : decode cL_law 2237 = .ok (.ireturn, 1) := dk_172 (dk_at dksL_law_89 16 rfl rfl)
theorem dL_law_2238 : decode cL_law 2238 = .ok (.iload 6, 2) := dk_21 6 (dk_at dksL_law_89 17 rfl rfl)
theorem dL_law_2240 : decode cL_law 2240 = .ok (.ifCond .ne 35, 3) := dk_154 0 35 (dk_at dksL_law_89 19 rfl rfl)
theorem dL_law_2243 : decode cL_law 2243 = .ok (.aload 4, 2) := dk_25 4 (dk_at dksL_law_89 22 rfl rfl)
theorem dL_law_2245 : decode cL_law 2245 = .ok (.iconst 0, 1) := dk_3 (dk_at dksL_law_90 0 rfl rfl)
theorem dL_law_2246 : decode cL_law 2246 = .ok (.daload, 1) := dk_49 (dk_at dksL_law_90 1 rfl rfl)
theorem dL_law_2247 : decode cL_law 2247 = .ok (.dload 7, 2) := dk_24 7 (dk_at dksL_law_90 2 rfl rfl)
theorem dL_law_2249 : decode cL_law 2249 = .ok (.dcmp .l, 1) := dk_151 (dk_at dksL_law_90 4 rfl rfl)
theorem dL_law_2250 : decode cL_law 2250 = .ok (.ifCond .eq 25, 3) := dk_153 0 25 (dk_at dksL_law_90 5 rfl rfl)
theorem dL_law_2253 : decode cL_law 2253 = .ok (.aload 4, 2) := dk_25 4 (dk_at dksL_law_90 8 rfl rfl)
theorem dL_law_2255 : decode cL_law 2255 = .ok (.iconst 0, 1) := dk_3 (dk_at dksL_law_90 10 rfl rfl)
theorem dL_law_2256 : decode cL_law 2256 = .ok (.daload, 1) := dk_49 (dk_at dksL_law_90 11 rfl rfl)
theorem dL_law_2257 : decode cL_law 2257 = .ok (.aload 4, 2) := dk_25 4 (dk_at dksL_law_90 12 rfl rfl)
theorem dL_law_2259 : decode cL_law 2259 = .ok (.iconst 0, 1) := dk_3 (dk_at dksL_law_90 14 rfl rfl)
theorem dL_law_2260 : decode cL_law 2260 = .ok (.daload, 1) := dk_49 (dk_at dksL_law_90 15 rfl rfl)
theorem dL_law_2261 : decode cL_law 2261 = .ok (.dcmp .l, 1) := dk_151 (dk_at dksL_law_90 16 rfl rfl)
theorem dL_law_2262 : decode cL_law 2262 = .ok (.ifCond .eq 11, 3) := dk_153 0 11 (dk_at dksL_law_90 17 rfl rfl)
theorem dL_law_2265 : decode cL_law 2265 = .ok (.dload 7, 2) := dk_24 7 (dk_at dksL_law_90 20 rfl rfl)
theorem dL_law_2267 : decode cL_law 2267 = .ok (.dload 7, 2) := dk_24 7 (dk_at dksL_law_90 22 rfl rfl)
theorem dL_law_2269 : decode cL_law 2269 = .ok (.dcmp .l, 1) := dk_151 (dk_at dksL_law_91 0 rfl rfl)
theorem dL_law_2270 : decode cL_law 2270 = .ok (.ifCond .ne 5, 3) := dk_154 0 5 (dk_at dksL_law_91 1 rfl rfl)
theorem dL_law_2273 : decode cL_law 2273 = .ok (.iconst 0, 1) := dk_3 (dk_at dksL_law_91 4 rfl rfl)
theorem dL_law_2274 : decode cL_law 2274 = .ok (.ireturn, 1) := dk_172 (dk_at dksL_law_91 5 rfl rfl)
theorem dL_law_2275 : decode cL_law 2275 = .ok (.goto 182, 3) := dk_167 0 182 (dk_at dksL_law_91 6 rfl rfl)
theorem dL_law_2278 : decode cL_law 2278 = .ok (.aload_n 1, 1) := dk_43 (dk_at dksL_law_91 9 rfl rfl)
theorem dL_law_2279 : decode cL_law 2279 = .ok (.aload_n 0, 1) := dk_42 (dk_at dksL_law_91 10 rfl rfl)
theorem dL_law_2280 : decode cL_law 2280 = .ok (.iload 5, 2) := dk_21 5 (dk_at dksL_law_91 11 rfl rfl)
theorem dL_law_2282 : decode cL_law 2282 = .ok (.iconst 1, 1) := dk_4 (dk_at dksL_law_91 13 rfl rfl)
theorem dL_law_2283 : decode cL_law 2283 = .ok (.iadd, 1) := dk_96 (dk_at dksL_law_91 14 rfl rfl)
theorem dL_law_2284 : decode cL_law 2284 = .ok (.iaload, 1) := dk_46 (dk_at dksL_law_91 15 rfl rfl)
theorem dL_law_2285 : decode cL_law 2285 = .ok (.aload 4, 2) := dk_25 4 (dk_at dksL_law_91 16 rfl rfl)
theorem dL_law_2287 : decode cL_law 2287 = .ok (.invokestatic 258, 3) := dk_184 1 2 (dk_at dksL_law_91 18 rfl rfl)
theorem dL_law_2290 : decode cL_law 2290 = .ok (.istore 6, 2) := dk_54 6 (dk_at dksL_law_91 21 rfl rfl)
theorem dL_law_2292 : decode cL_law 2292 = .ok (.aload_n 2, 1) := dk_44 (dk_at dksL_law_91 23 rfl rfl)
theorem dL_law_2293 : decode cL_law 2293 = .ok (.aload_n 0, 1) := dk_42 (dk_at dksL_law_92 0 rfl rfl)
theorem dL_law_2294 : decode cL_law 2294 = .ok (.iload 5, 2) := dk_21 5 (dk_at dksL_law_92 1 rfl rfl)
theorem dL_law_2296 : decode cL_law 2296 = .ok (.iconst 1, 1) := dk_4 (dk_at dksL_law_92 3 rfl rfl)
theorem dL_law_2297 : decode cL_law 2297 = .ok (.iadd, 1) := dk_96 (dk_at dksL_law_92 4 rfl rfl)
theorem dL_law_2298 : decode cL_law 2298 = .ok (.iaload, 1) := dk_46 (dk_at dksL_law_92 5 rfl rfl)
theorem dL_law_2299 : decode cL_law 2299 = .ok (.invokevirtual 261, 3) := dk_182 1 5 (dk_at dksL_law_92 6 rfl rfl)
theorem dL_law_2302 : decode cL_law 2302 = .ok (.fstore 7, 2) := dk_56 7 (dk_at dksL_law_92 9 rfl rfl)
theorem dL_law_2304 : decode cL_law 2304 = .ok (.aload_n 2, 1) := dk_44 (dk_at dksL_law_92 11 rfl rfl)
theorem dL_law_2305 : decode cL_law 2305 = .ok (.invokevirtual 144, 3) := dk_182 0 144 (dk_at dksL_law_92 12 rfl rfl)
theorem dL_law_2308 : decode cL_law 2308 = .ok (.iload 6, 2) := dk_21 6 (dk_at dksL_law_92 15 rfl rfl)
theorem dL_law_2310 : decode cL_law 2310 = .ok (.if_icmp .eq 5, 3) := dk_159 0 5 (dk_at dksL_law_92 17 rfl rfl)
theorem dL_law_2313 : decode cL_law 2313 = .ok (.iconst 0, 1) := dk_3 (dk_at dksL_law_92 20 rfl rfl)
theorem dL_law_2314 : decode cL_law 2314 = .ok (.ireturn, 1) := dk_172 (dk_at dksL_law_92 21 rfl rfl)
theorem dL_law_2315 : decode cL_law 2315 = .ok (.iload 6, 2) := dk_21 6 (dk_at dksL_law_92 22 rfl rfl)
theorem dL_law_2317 : decode cL_law 2317 = .ok (.ifCond .ne 36, 3) := dk_154 0 36 (dk_at dksL_law_93 0 rfl rfl)
theorem dL_law_2320 : decode cL_law 2320 = .ok (.aload 4, 2) := dk_25 4 (dk_at dksL_law_93 3 rfl rfl)
theorem dL_law_2322 : decode cL_law 2322 = .ok (.iconst 0, 1) := dk_3 (dk_at dksL_law_93 5 rfl rfl)
theorem dL_law_2323 : decode cL_law 2323 = .ok (.daload, 1) := dk_49 (dk_at dksL_law_93 6 rfl rfl)
theorem dL_law_2324 : decode cL_law 2324 = .ok (.fload 7, 2) := dk_23 7 (dk_at dksL_law_93 7 rfl rfl)
theorem dL_law_2326 : decode cL_law 2326 = .ok (.f2d, 1) := dk_141 (dk_at dksL_law_93 9 rfl rfl)
theorem dL_law_2327 : decode cL_law 2327 = .ok (.dcmp .l, 1) := dk_151 (dk_at dksL_law_93 10 rfl rfl)
theorem dL_law_2328 : decode cL_law 2328 = .ok (.ifCond .eq 25, 3) := dk_153 0 25 (dk_at dksL_law_93 11 rfl rfl)
theorem dL_law_2331 : decode cL_law 2331 = .ok (.aload 4, 2) := dk_25 4 (dk_at dksL_law_93 14 rfl rfl)
theorem dL_law_2333 : decode cL_law 2333 = .ok (.iconst 0, 1) := dk_3 (dk_at dksL_law_93 16 rfl rfl)
theorem dL_law_2334 : decode cL_law 2334 = .ok (.daload, 1) := dk_49 (dk_at dksL_law_93 17 rfl rfl)
theorem dL_law_2335 : decode cL_law 2335 = .ok (.aload 4, 2) := dk_25 4 (dk_at dksL_law_93 18 rfl rfl)
theorem dL_law_2337 : decode cL_law 2337 = .ok (.iconst 0, 1) := dk_3 (dk_at dksL_law_93 20 rfl rfl)
theorem dL_law_2338 : decode cL_law 2338 = .ok (.daload, 1) := dk_49 (dk_at dksL_law_93 21 rfl rfl)
theorem dL_law_2339 : decode cL_law 2339 = .ok (.dcmp .l, 1) := dk_151 (dk_at dksL_law_93 22 rfl rfl)
theorem dL_law_2340 : decode cL_law 2340 = .ok (.ifCond .eq 11, 3) := dk_153 0 11 (dk_at dksL_law_94 0 rfl rfl)
theorem dL_law_2343 : decode cL_law 2343 = .ok (.fload 7, 2) := dk_23 7 (dk_at dksL_law_94 3 rfl rfl)
theorem dL_law_2345 : decode cL_law 2345 = .ok (.fload 7, 2) := dk_23 7 (dk_at dksL_law_94 5 rfl rfl)
theorem dL_law_2347 : decode cL_law 2347 = .ok (.fcmp .l, 1) := dk_149 (dk_at dksL_law_94 7 rfl rfl)
theorem dL_law_2348 : decode cL_law 2348 = .ok (.ifCond .ne 5, 3) := dk_154 0 5 (dk_at dksL_law_94 8 rfl rfl)
theorem dL_law_2351 : decode cL_law 2351 = .ok (.iconst 0, 1) := dk_3 (dk_at dksL_law_94 11 rfl rfl)
theorem dL_law_2352 : decode cL_law 2352 = .ok (.ireturn, 1) := dk_172 (dk_at dksL_law_94 12 rfl rfl)
theorem dL_law_2353 : decode cL_law 2353 = .ok (.goto 104, 3) := dk_167 0 104 (dk_at dksL_law_94 13 rfl rfl)
theorem dL_law_2356 : decode cL_law 2356 = .ok (.aload_n 1, 1) := dk_43 (dk_at dksL_law_94 16 rfl rfl)
theorem dL_law_2357 : decode cL_law 2357 = .ok (.aload_n 3, 1) := dk_45 (dk_at dksL_law_94 17 rfl rfl)
theorem dL_law_2358 : decode cL_law 2358 = .ok (.invokestatic 262, 3) := dk_184 1 6 (dk_at dksL_law_94 18 rfl rfl)
theorem dL_law_2361 : decode cL_law 2361 = .ok (.istore 6, 2) := dk_54 6 (dk_at dksL_law_94 21 rfl rfl)
theorem dL_law_2363 : decode cL_law 2363 = .ok (.aload_n 2, 1) := dk_44 (dk_at dksL_law_94 23 rfl rfl)
theorem dL_law_2364 : decode cL_law 2364 = .ok (.invokevirtual 264, 3) := dk_182 1 8 (dk_at dksL_law_95 0 rfl rfl)
theorem dL_law_2367 : decode cL_law 2367 = .ok (.istore 7, 2) := dk_54 7 (dk_at dksL_law_95 3 rfl rfl)
theorem dL_law_2369 : decode cL_law 2369 = .ok (.aload_n 2, 1) := dk_44 (dk_at dksL_law_95 5 rfl rfl)
theorem dL_law_2370 : decode cL_law 2370 = .ok (.invokevirtual 144, 3) := dk_182 0 144 (dk_at dksL_law_95 6 rfl rfl)
theorem dL_law_2373 : decode cL_law 2373 = .ok (.iload 6, 2) := dk_21 6 (dk_at dksL_law_95 9 rfl rfl)
theorem dL_law_2375 : decode cL_law 2375 = .ok (.if_icmp .eq 5, 3) := dk_159 0 5 (dk_at dksL_law_95 11 rfl rfl)
theorem dL_law_2378 : decode cL_law 2378 = .ok (.iconst 0, 1) := dk_3 (dk_at dksL_law_95 14 rfl rfl)
theorem dL_law_2379 : decode cL_law 2379 = .ok (.ireturn, 1) := dk_172 (dk_at dksL_law_95 15 rfl rfl)
theorem dL_law_2380 : decode cL_law 2380 = .ok (.iload 6, 2) := dk_21 6 (dk_at dksL_law_95 16 rfl rfl)
theorem dL_law_2382 : decode cL_law 2382 = .ok (.ifCond .ne 15, 3) := dk_154 0 15 (dk_at dksL_law_95 18 rfl rfl)
theorem dL_law_2385 : decode cL_law 2385 = .ok (.aload_n 3, 1) := dk_45 (dk_at dksL_law_95 21 rfl rfl)
theorem dL_law_2386 : decode cL_law 2386 = .ok (.iconst 0, 1) := dk_3 (dk_at dksL_law_95 22 rfl rfl)
theorem dL_law_2387 : decode cL_law 2387 = .ok (.laload, 1) := dk_47 (dk_at dksL_law_95 23 rfl rfl)
theorem dL_law_2388 : decode cL_law 2388 = .ok (.iload 7, 2) := dk_21 7 (dk_at dksL_law_96 0 rfl rfl)
theorem dL_law_2390 : decode cL_law 2390 = .ok (.i2l, 1) := dk_133 (dk_at dksL_law_96 2 rfl rfl)
theorem dL_law_2391 : decode cL_law 2391 = .ok (.lcmp, 1) := dk_148 (dk_at dksL_law_96 3 rfl rfl)
theorem dL_law_2392 : decode cL_law 2392 = .ok (.ifCond .eq 5, 3) := dk_153 0 5 (dk_at dksL_law_96 4 rfl rfl)
theorem dL_law_2395 : decode cL_law 2395 = .ok (.iconst 0, 1) := dk_3 (dk_at dksL_law_96 7 rfl rfl)
theorem dL_law_2396 : decode cL_law 2396 = .ok (.ireturn, 1) := dk_172 (dk_at dksL_law_96 8 rfl rfl)
theorem dL_law_2397 : decode cL_law 2397 = .ok (.goto 60, 3) := dk_167 0 60 (dk_at dksL_law_96 9 rfl rfl)
theorem dL_law_2400 : decode cL_law 2400 = .ok (.aload_n 1, 1) := dk_43 (dk_at dksL_law_96 12 rfl rfl)
theorem dL_law_2401 : decode cL_law 2401 = .ok (.invokevirtual 265, 3) := dk_182 1 9 (dk_at dksL_law_96 13 rfl rfl)
theorem dL_law_2404 : decode cL_law 2404 = .ok (.aload_n 2, 1) := dk_44 (dk_at dksL_law_96 16 rfl rfl)
theorem dL_law_2405 : decode cL_law 2405 = .ok (.invokevirtual 268, 3) := dk_182 1 12 (dk_at dksL_law_96 17 rfl rfl)
theorem dL_law_2408 : decode cL_law 2408 = .ok (.if_icmp .eq 49, 3) := dk_159 0 49 (dk_at dksL_law_96 20 rfl rfl)
theorem dL_law_2411 : decode cL_law 2411 = .ok (.iconst 0, 1) := dk_3 (dk_at dksL_law_96 23 rfl rfl)
theorem dL_law_2412 : decode cL_law 2412 = .ok (.ireturn, 1) := dk_172 (dk_at dksL_law_97 0 rfl rfl)
theorem dL_law_2413 : decode cL_law 2413 = .ok (.aload_n 1, 1) := dk_43 (dk_at dksL_law_97 1 rfl rfl)
theorem dL_law_2414 : decode cL_law 2414 = .ok (.aload_n 3, 1) := dk_45 (dk_at dksL_law_97 2 rfl rfl)
theorem dL_law_2415 : decode cL_law 2415 = .ok (.invokestatic 269, 3) := dk_184 1 13 (dk_at dksL_law_97 3 rfl rfl)
theorem dL_law_2418 : decode cL_law 2418 = .ok (.istore 6, 2) := dk_54 6 (dk_at dksL_law_97 6 rfl rfl)
theorem dL_law_2420 : decode cL_law 2420 = .ok (.aload_n 2, 1) := dk_44 (dk_at dksL_law_97 8 rfl rfl)
theorem dL_law_2421 : decode cL_law 2421 = .ok (.invokevirtual 271, 3) := dk_182 1 15 (dk_at dksL_law_97 9 rfl rfl)
theorem dL_law_2424 : decode cL_law 2424 = .ok (.istore 7, 2) := dk_54 7 (dk_at dksL_law_97 12 rfl rfl)
theorem dL_law_2426 : decode cL_law 2426 = .ok (.aload_n 2, 1) := dk_44 (dk_at dksL_law_97 14 rfl rfl)
theorem dL_law_2427 : decode cL_law 2427 = .ok (.invokevirtual 144, 3) := dk_182 0 144 (dk_at dksL_law_97 15 rfl rfl)
theorem dL_law_2430 : decode cL_law 2430 = .ok (.iload 6, 2) := dk_21 6 (dk_at dksL_law_97 18 rfl rfl)
theorem dL_law_2432 : decode cL_law 2432 = .ok (.if_icmp .eq 5, 3) := dk_159 0 5 (dk_at dksL_law_97 20 rfl rfl)
theorem dL_law_2435 : decode cL_law 2435 = .ok (.iconst 0, 1) := dk_3 (dk_at dksL_law_97 23 rfl rfl)
theorem dL_law_2436 : decode cL_law 2436 = .ok (.ireturn, 1) := dk_172 (dk_at dksL_law_98 0 rfl rfl)
theorem dL_law_2437 : decode cL_law 2437 = .ok (.iload 6, 2) := dk_21 6 (dk_at dksL_law_98 1 rfl rfl)
theorem dL_law_2439 : decode cL_law 2439 = .ok (.ifCond .ne 15, 3) := dk_154 0 15 (dk_at dksL_law_98 3 rfl rfl)
theorem dL_law_2442 : decode cL_law 2442 = .ok (.aload_n 3, 1) := dk_45 (dk_at dksL_law_98 6 rfl rfl)
theorem dL_law_2443 : decode cL_law 2443 = .ok (.iconst 0, 1) := dk_3 (dk_at dksL_law_98 7 rfl rfl)
theorem dL_law_2444 : decode cL_law 2444 = .ok (.laload, 1) := dk_47 (dk_at dksL_law_98 8 rfl rfl)
theorem dL_law_2445 : decode cL_law 2445 = .ok (.iload 7, 2) := dk_21 7 (dk_at dksL_law_98 9 rfl rfl)
theorem dL_law_2447 : decode cL_law 2447 = .ok (.i2l, 1) := dk_133 (dk_at dksL_law_98 11 rfl rfl)
theorem dL_law_2448 : decode cL_law 2448 = .ok (.lcmp, 1) := dk_148 (dk_at dksL_law_98 12 rfl rfl)
theorem dL_law_2449 : decode cL_law 2449 = .ok (.ifCond .eq 5, 3) := dk_153 0 5 (dk_at dksL_law_98 13 rfl rfl)
theorem dL_law_2452 : decode cL_law 2452 = .ok (.iconst 0, 1) := dk_3 (dk_at dksL_law_98 16 rfl rfl)
theorem dL_law_2453 : decode cL_law 2453 = .ok (.ireturn, 1) := dk_172 (dk_at dksL_law_98 17 rfl rfl)
theorem dL_law_2454 : decode cL_law 2454 = .ok (.goto 3, 3) := dk_167 0 3 (dk_at dksL_law_98 18 rfl rfl)
theorem dL_law_2457 : decode cL_law 2457 = .ok (.iinc 5 5, 3) := dk_132 5 5 (dk_at dksL_law_98 21 rfl rfl)
theorem dL_law_2460 : decode cL_law 2460 = .ok (.goto (-2432), 3) := dk_167 246 128 (dk_at dksL_law_99 0 rfl rfl)
theorem dL_law_2463 : decode cL_law 2463 = .ok (.iconst 1, 1) := dk_4 (dk_at dksL_law_99 3 rfl rfl)
theorem dL_law_2464 : decode cL_law 2464 = .ok (.ireturn, 1) := dk_172 (dk_at dksL_law_99 4 rfl rfl)
