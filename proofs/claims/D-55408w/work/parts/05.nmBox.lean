/-! BoxSpans -/
set_option maxRecDepth 100000
def RX1 : String := "BoxSpans"
def TX1 : u_T := fun k => match k with
  | 0 => ("BoxSpans", "theatre", "LBoxSpans$Theatre;", false)
  | 1 => ("BoxSpans", "saved", "LBoxSpans$Theatre;", false)
  | 2 => ("BoxSpans", "past", "Ljava/util/LinkedList;", true)
  | 3 => ("BoxSpans", "buffer", "Ljava/lang/StringBuilder;", true)
  | 4 => ("BoxSpans", "error", "I", false)
  | 5 => ("BoxSpans", "refused", "LBoxSpans$Refusal;", false)
  | _ => ("BoxSpans", "line", "Ljava/lang/String;", false)
def tyX1 : Nat → FieldType := fun k => match k with
  | 0 => .object "BoxSpans$Theatre"
  | 1 => .object "BoxSpans$Theatre"
  | 2 => .object "java/util/LinkedList"
  | 3 => .object "java/lang/StringBuilder"
  | 4 => .int
  | 5 => .object "BoxSpans$Refusal"
  | _ => .object "java/lang/String"
abbrev wsX10 : List Cond := u_ws RX1 TX1 7
theorem nmX1 : ∀ a, a < 7 → ∀ b, b < 7 → a ≠ b → (TX1 a).2.1 ≠ (TX1 b).2.1 := by decide +kernel
theorem tyX1_ok : ∀ k, k < 7 → parseFieldDescriptor (TX1 k).2.2.1 = some (tyX1 k) := by decide +kernel
abbrev cX1_init : ByteArray := prog_1_method_5_code
def yX1_init : MethodName := ⟨RX1, "<init>", "()V"⟩
def dkwX1_init_2 : List UInt8 := [181, 0, 45, 177]
abbrev dktX1_init_2 : List UInt8 := dkwX1_init_2 ++ []
def dkwX1_init_1 : List UInt8 := [181, 0, 28, 42, 187, 0, 32, 89, 183, 0, 34, 181, 0, 35, 42, 2, 181, 0, 39, 42, 18, 43]
abbrev dktX1_init_1 : List UInt8 := dkwX1_init_1 ++ dktX1_init_2
def dkwX1_init_0 : List UInt8 := [42, 183, 0, 13, 42, 187, 0, 18, 89, 183, 0, 20, 181, 0, 21, 42, 187, 0, 25, 89, 183, 0, 27]
abbrev dktX1_init_0 : List UInt8 := dkwX1_init_0 ++ dktX1_init_1
theorem dksX1_init_0 : cX1_init.data.toList.drop 0 = dktX1_init_0 := by decide +kernel
theorem dksX1_init_1 : cX1_init.data.toList.drop 23 = dktX1_init_1 := dk_seg dksX1_init_0 23 rfl rfl
theorem dksX1_init_2 : cX1_init.data.toList.drop 45 = dktX1_init_2 := dk_seg dksX1_init_1 22 rfl rfl
theorem dX1_init_0 : decode cX1_init 0 = .ok (.aload_n 0, 1) := dk_42 (dk_at dksX1_init_0 0 rfl rfl)
theorem dX1_init_1 : decode cX1_init 1 = .ok (.invokespecial 13, 3) := dk_183 0 13 (dk_at dksX1_init_0 1 rfl rfl)
theorem dX1_init_4 : decode cX1_init 4 = .ok (.aload_n 0, 1) := dk_42 (dk_at dksX1_init_0 4 rfl rfl)
theorem dX1_init_5 : decode cX1_init 5 = .ok (.new 18, 3) := dk_187 0 18 (dk_at dksX1_init_0 5 rfl rfl)
theorem dX1_init_8 : decode cX1_init 8 = .ok (.dup, 1) := dk_89 (dk_at dksX1_init_0 8 rfl rfl)
theorem dX1_init_9 : decode cX1_init 9 = .ok (.invokespecial 20, 3) := dk_183 0 20 (dk_at dksX1_init_0 9 rfl rfl)
theorem dX1_init_12 : decode cX1_init 12 = .ok (.putfield 21, 3) := dk_181 0 21 (dk_at dksX1_init_0 12 rfl rfl)
theorem dX1_init_15 : decode cX1_init 15 = .ok (.aload_n 0, 1) := dk_42 (dk_at dksX1_init_0 15 rfl rfl)
theorem dX1_init_16 : decode cX1_init 16 = .ok (.new 25, 3) := dk_187 0 25 (dk_at dksX1_init_0 16 rfl rfl)
theorem dX1_init_19 : decode cX1_init 19 = .ok (.dup, 1) := dk_89 (dk_at dksX1_init_0 19 rfl rfl)
theorem dX1_init_20 : decode cX1_init 20 = .ok (.invokespecial 27, 3) := dk_183 0 27 (dk_at dksX1_init_0 20 rfl rfl)
theorem dX1_init_23 : decode cX1_init 23 = .ok (.putfield 28, 3) := dk_181 0 28 (dk_at dksX1_init_1 0 rfl rfl)
theorem dX1_init_26 : decode cX1_init 26 = .ok (.aload_n 0, 1) := dk_42 (dk_at dksX1_init_1 3 rfl rfl)
theorem dX1_init_27 : decode cX1_init 27 = .ok (.new 32, 3) := dk_187 0 32 (dk_at dksX1_init_1 4 rfl rfl)
theorem dX1_init_30 : decode cX1_init 30 = .ok (.dup, 1) := dk_89 (dk_at dksX1_init_1 7 rfl rfl)
theorem dX1_init_31 : decode cX1_init 31 = .ok (.invokespecial 34, 3) := dk_183 0 34 (dk_at dksX1_init_1 8 rfl rfl)
theorem dX1_init_34 : decode cX1_init 34 = .ok (.putfield 35, 3) := dk_181 0 35 (dk_at dksX1_init_1 11 rfl rfl)
theorem dX1_init_37 : decode cX1_init 37 = .ok (.aload_n 0, 1) := dk_42 (dk_at dksX1_init_1 14 rfl rfl)
theorem dX1_init_38 : decode cX1_init 38 = .ok (.iconst (-1), 1) := dk_2 (dk_at dksX1_init_1 15 rfl rfl)
theorem dX1_init_39 : decode cX1_init 39 = .ok (.putfield 39, 3) := dk_181 0 39 (dk_at dksX1_init_1 16 rfl rfl)
theorem dX1_init_42 : decode cX1_init 42 = .ok (.aload_n 0, 1) := dk_42 (dk_at dksX1_init_1 19 rfl rfl)
theorem dX1_init_43 : decode cX1_init 43 = .ok (.ldc 43, 2) := dk_18 43 (dk_at dksX1_init_1 20 rfl rfl)
theorem dX1_init_45 : decode cX1_init 45 = .ok (.putfield 45, 3) := dk_181 0 45 (dk_at dksX1_init_2 0 rfl rfl)
theorem dX1_init_48 : decode cX1_init 48 = .ok (.return_, 1) := dk_177 (dk_at dksX1_init_2 3 rfl rfl)
abbrev cX1_needs : ByteArray := prog_1_method_30_code
def yX1_needs : MethodName := ⟨RX1, "needs", "()I"⟩
def dkwX1_needs_0 : List UInt8 := [42, 180, 0, 21, 42, 180, 0, 21, 182, 0, 212, 182, 0, 199, 172]
abbrev dktX1_needs_0 : List UInt8 := dkwX1_needs_0 ++ []
theorem dksX1_needs_0 : cX1_needs.data.toList.drop 0 = dktX1_needs_0 := by decide +kernel
theorem dX1_needs_0 : decode cX1_needs 0 = .ok (.aload_n 0, 1) := dk_42 (dk_at dksX1_needs_0 0 rfl rfl)
theorem dX1_needs_1 : decode cX1_needs 1 = .ok (.getfield 21, 3) := dk_180 0 21 (dk_at dksX1_needs_0 1 rfl rfl)
theorem dX1_needs_4 : decode cX1_needs 4 = .ok (.aload_n 0, 1) := dk_42 (dk_at dksX1_needs_0 4 rfl rfl)
theorem dX1_needs_5 : decode cX1_needs 5 = .ok (.getfield 21, 3) := dk_180 0 21 (dk_at dksX1_needs_0 5 rfl rfl)
theorem dX1_needs_8 : decode cX1_needs 8 = .ok (.invokevirtual 212, 3) := dk_182 0 212 (dk_at dksX1_needs_0 8 rfl rfl)
theorem dX1_needs_11 : decode cX1_needs 11 = .ok (.invokevirtual 199, 3) := dk_182 0 199 (dk_at dksX1_needs_0 11 rfl rfl)
theorem dX1_needs_14 : decode cX1_needs 14 = .ok (.ireturn, 1) := dk_172 (dk_at dksX1_needs_0 14 rfl rfl)
abbrev cX1_needsAgain : ByteArray := prog_1_method_31_code
def yX1_needsAgain : MethodName := ⟨RX1, "needsAgain", "()I"⟩
def dkwX1_needsAgain_0 : List UInt8 := [42, 180, 0, 21, 182, 0, 215, 172]
abbrev dktX1_needsAgain_0 : List UInt8 := dkwX1_needsAgain_0 ++ []
theorem dksX1_needsAgain_0 : cX1_needsAgain.data.toList.drop 0 = dktX1_needsAgain_0 := by decide +kernel
theorem dX1_needsAgain_0 : decode cX1_needsAgain 0 = .ok (.aload_n 0, 1) := dk_42 (dk_at dksX1_needsAgain_0 0 rfl rfl)
theorem dX1_needsAgain_1 : decode cX1_needsAgain 1 = .ok (.getfield 21, 3) := dk_180 0 21 (dk_at dksX1_needsAgain_0 1 rfl rfl)
theorem dX1_needsAgain_4 : decode cX1_needsAgain 4 = .ok (.invokevirtual 215, 3) := dk_182 0 215 (dk_at dksX1_needsAgain_0 4 rfl rfl)
theorem dX1_needsAgain_7 : decode cX1_needsAgain 7 = .ok (.ireturn, 1) := dk_172 (dk_at dksX1_needsAgain_0 7 rfl rfl)
abbrev cX1_isOnce : ByteArray := prog_1_method_52_code
def yX1_isOnce : MethodName := ⟨RX1, "isOnce", "()Z"⟩
def dkwX1_isOnce_0 : List UInt8 := [42, 180, 0, 21, 182, 1, 129, 172]
abbrev dktX1_isOnce_0 : List UInt8 := dkwX1_isOnce_0 ++ []
theorem dksX1_isOnce_0 : cX1_isOnce.data.toList.drop 0 = dktX1_isOnce_0 := by decide +kernel
theorem dX1_isOnce_0 : decode cX1_isOnce 0 = .ok (.aload_n 0, 1) := dk_42 (dk_at dksX1_isOnce_0 0 rfl rfl)
theorem dX1_isOnce_1 : decode cX1_isOnce 1 = .ok (.getfield 21, 3) := dk_180 0 21 (dk_at dksX1_isOnce_0 1 rfl rfl)
theorem dX1_isOnce_4 : decode cX1_isOnce 4 = .ok (.invokevirtual 385, 3) := dk_182 1 129 (dk_at dksX1_isOnce_0 4 rfl rfl)
theorem dX1_isOnce_7 : decode cX1_isOnce 7 = .ok (.ireturn, 1) := dk_172 (dk_at dksX1_isOnce_0 7 rfl rfl)
abbrev cX1_save : ByteArray := prog_1_method_56_code
def yX1_save : MethodName := ⟨RX1, "save", "()I"⟩
def dkwX1_save_0 : List UInt8 := [42, 42, 180, 0, 21, 181, 1, 140, 42, 180, 0, 21, 3, 182, 1, 117, 172]
abbrev dktX1_save_0 : List UInt8 := dkwX1_save_0 ++ []
theorem dksX1_save_0 : cX1_save.data.toList.drop 0 = dktX1_save_0 := by decide +kernel
theorem dX1_save_0 : decode cX1_save 0 = .ok (.aload_n 0, 1) := dk_42 (dk_at dksX1_save_0 0 rfl rfl)
theorem dX1_save_1 : decode cX1_save 1 = .ok (.aload_n 0, 1) := dk_42 (dk_at dksX1_save_0 1 rfl rfl)
theorem dX1_save_2 : decode cX1_save 2 = .ok (.getfield 21, 3) := dk_180 0 21 (dk_at dksX1_save_0 2 rfl rfl)
theorem dX1_save_5 : decode cX1_save 5 = .ok (.putfield 396, 3) := dk_181 1 140 (dk_at dksX1_save_0 5 rfl rfl)
theorem dX1_save_8 : decode cX1_save 8 = .ok (.aload_n 0, 1) := dk_42 (dk_at dksX1_save_0 8 rfl rfl)
theorem dX1_save_9 : decode cX1_save 9 = .ok (.getfield 21, 3) := dk_180 0 21 (dk_at dksX1_save_0 9 rfl rfl)
theorem dX1_save_12 : decode cX1_save 12 = .ok (.iconst 0, 1) := dk_3 (dk_at dksX1_save_0 12 rfl rfl)
theorem dX1_save_13 : decode cX1_save 13 = .ok (.invokevirtual 373, 3) := dk_182 1 117 (dk_at dksX1_save_0 13 rfl rfl)
theorem dX1_save_16 : decode cX1_save 16 = .ok (.ireturn, 1) := dk_172 (dk_at dksX1_save_0 16 rfl rfl)
abbrev cX1_box : ByteArray := prog_1_method_15_code
def yX1_box : MethodName := ⟨RX1, "box", "(I)I"⟩
def dkwX1_box_0 : List UInt8 := [27, 4, 16, 8, 184, 0, 9, 184, 0, 86, 42, 27, 186, 0, 120, 0, 0, 182, 0, 123, 172]
abbrev dktX1_box_0 : List UInt8 := dkwX1_box_0 ++ []
theorem dksX1_box_0 : cX1_box.data.toList.drop 0 = dktX1_box_0 := by decide +kernel
theorem dX1_box_0 : decode cX1_box 0 = .ok (.iload_n 1, 1) := dk_27 (dk_at dksX1_box_0 0 rfl rfl)
theorem dX1_box_1 : decode cX1_box 1 = .ok (.iconst 1, 1) := dk_4 (dk_at dksX1_box_0 1 rfl rfl)
theorem dX1_box_2 : decode cX1_box 2 = .ok (.bipush 8, 2) := dk_16 8 (dk_at dksX1_box_0 2 rfl rfl)
theorem dX1_box_4 : decode cX1_box 4 = .ok (.invokestatic 9, 3) := dk_184 0 9 (dk_at dksX1_box_0 4 rfl rfl)
theorem dX1_box_7 : decode cX1_box 7 = .ok (.invokestatic 86, 3) := dk_184 0 86 (dk_at dksX1_box_0 7 rfl rfl)
theorem dX1_box_10 : decode cX1_box 10 = .ok (.aload_n 0, 1) := dk_42 (dk_at dksX1_box_0 10 rfl rfl)
theorem dX1_box_11 : decode cX1_box 11 = .ok (.iload_n 1, 1) := dk_27 (dk_at dksX1_box_0 11 rfl rfl)
theorem dX1_box_12 : decode cX1_box 12 = .ok (.invokedynamic 120, 5) := by decide +kernel
theorem dX1_box_17 : decode cX1_box 17 = .ok (.invokevirtual 123, 3) := dk_182 0 123 (dk_at dksX1_box_0 17 rfl rfl)
theorem dX1_box_20 : decode cX1_box 20 = .ok (.ireturn, 1) := dk_172 (dk_at dksX1_box_0 20 rfl rfl)
abbrev cX1_isIn : ByteArray := prog_1_method_2_code
def yX1_isIn : MethodName := ⟨RX1, "isIn", "(III)Z"⟩
def dkwX1_isIn_0 : List UInt8 := [26, 27, 161, 0, 12, 26, 28, 163, 0, 7, 4, 167, 0, 4, 3, 172]
abbrev dktX1_isIn_0 : List UInt8 := dkwX1_isIn_0 ++ []
theorem dksX1_isIn_0 : cX1_isIn.data.toList.drop 0 = dktX1_isIn_0 := by decide +kernel
theorem dX1_isIn_0 : decode cX1_isIn 0 = .ok (.iload_n 0, 1) := dk_26 (dk_at dksX1_isIn_0 0 rfl rfl)
theorem dX1_isIn_1 : decode cX1_isIn 1 = .ok (.iload_n 1, 1) := dk_27 (dk_at dksX1_isIn_0 1 rfl rfl)
theorem dX1_isIn_2 : decode cX1_isIn 2 = .ok (.if_icmp .lt 12, 3) := dk_161 0 12 (dk_at dksX1_isIn_0 2 rfl rfl)
theorem dX1_isIn_5 : decode cX1_isIn 5 = .ok (.iload_n 0, 1) := dk_26 (dk_at dksX1_isIn_0 5 rfl rfl)
theorem dX1_isIn_6 : decode cX1_isIn 6 = .ok (.iload_n 2, 1) := dk_28 (dk_at dksX1_isIn_0 6 rfl rfl)
theorem dX1_isIn_7 : decode cX1_isIn 7 = .ok (.if_icmp .gt 7, 3) := dk_163 0 7 (dk_at dksX1_isIn_0 7 rfl rfl)
theorem dX1_isIn_10 : decode cX1_isIn 10 = .ok (.iconst 1, 1) := dk_4 (dk_at dksX1_isIn_0 10 rfl rfl)
theorem dX1_isIn_11 : decode cX1_isIn 11 = .ok (.goto 4, 3) := dk_167 0 4 (dk_at dksX1_isIn_0 11 rfl rfl)
theorem dX1_isIn_14 : decode cX1_isIn 14 = .ok (.iconst 0, 1) := dk_3 (dk_at dksX1_isIn_0 14 rfl rfl)
theorem dX1_isIn_15 : decode cX1_isIn 15 = .ok (.ireturn, 1) := dk_172 (dk_at dksX1_isIn_0 15 rfl rfl)
abbrev cX1_require : ByteArray := prog_1_method_6_code
def yX1_require : MethodName := ⟨RX1, "require", "(Z)V"⟩
def dkwX1_require_0 : List UInt8 := [26, 154, 0, 11, 187, 0, 49, 89, 183, 0, 51, 191, 177]
abbrev dktX1_require_0 : List UInt8 := dkwX1_require_0 ++ []
theorem dksX1_require_0 : cX1_require.data.toList.drop 0 = dktX1_require_0 := by decide +kernel
theorem dX1_require_0 : decode cX1_require 0 = .ok (.iload_n 0, 1) := dk_26 (dk_at dksX1_require_0 0 rfl rfl)
theorem dX1_require_1 : decode cX1_require 1 = .ok (.ifCond .ne 11, 3) := dk_154 0 11 (dk_at dksX1_require_0 1 rfl rfl)
theorem dX1_require_4 : decode cX1_require 4 = .ok (.new 49, 3) := dk_187 0 49 (dk_at dksX1_require_0 4 rfl rfl)
theorem dX1_require_7 : decode cX1_require 7 = .ok (.dup, 1) := dk_89 (dk_at dksX1_require_0 7 rfl rfl)
theorem dX1_require_8 : decode cX1_require 8 = .ok (.invokespecial 51, 3) := dk_183 0 51 (dk_at dksX1_require_0 8 rfl rfl)
theorem dX1_require_11 : decode cX1_require 11 = .ok (.athrow, 1) := dk_191 (dk_at dksX1_require_0 11 rfl rfl)
theorem dX1_require_12 : decode cX1_require 12 = .ok (.return_, 1) := dk_177 (dk_at dksX1_require_0 12 rfl rfl)
abbrev cX1_lambda_box_0 : ByteArray := prog_1_method_68_code
def yX1_lambda_box_0 : MethodName := ⟨RX1, "lambda$box$0", "(ILBoxSpans$Theatre;)I"⟩
def dkwX1_lambda_box_0_0 : List UInt8 := [43, 26, 182, 1, 171, 172]
abbrev dktX1_lambda_box_0_0 : List UInt8 := dkwX1_lambda_box_0_0 ++ []
theorem dksX1_lambda_box_0_0 : cX1_lambda_box_0.data.toList.drop 0 = dktX1_lambda_box_0_0 := by decide +kernel
theorem dX1_lambda_box_0_0 : decode cX1_lambda_box_0 0 = .ok (.aload_n 1, 1) := dk_43 (dk_at dksX1_lambda_box_0_0 0 rfl rfl)
theorem dX1_lambda_box_0_1 : decode cX1_lambda_box_0 1 = .ok (.iload_n 0, 1) := dk_26 (dk_at dksX1_lambda_box_0_0 1 rfl rfl)
theorem dX1_lambda_box_0_2 : decode cX1_lambda_box_0 2 = .ok (.invokevirtual 427, 3) := dk_182 1 171 (dk_at dksX1_lambda_box_0_0 2 rfl rfl)
theorem dX1_lambda_box_0_5 : decode cX1_lambda_box_0 5 = .ok (.ireturn, 1) := dk_172 (dk_at dksX1_lambda_box_0_0 5 rfl rfl)
abbrev cX1_meet : ByteArray := prog_1_method_1_code
def yX1_meet : MethodName := ⟨RX1, "meet", "(ZII)V"⟩
def dkwX1_meet_0 : List UInt8 := [26, 154, 0, 14, 187, 0, 1, 89, 27, 28, 1, 183, 0, 3, 191, 177]
abbrev dktX1_meet_0 : List UInt8 := dkwX1_meet_0 ++ []
theorem dksX1_meet_0 : cX1_meet.data.toList.drop 0 = dktX1_meet_0 := by decide +kernel
theorem dX1_meet_0 : decode cX1_meet 0 = .ok (.iload_n 0, 1) := dk_26 (dk_at dksX1_meet_0 0 rfl rfl)
theorem dX1_meet_1 : decode cX1_meet 1 = .ok (.ifCond .ne 14, 3) := dk_154 0 14 (dk_at dksX1_meet_0 1 rfl rfl)
theorem dX1_meet_4 : decode cX1_meet 4 = .ok (.new 1, 3) := dk_187 0 1 (dk_at dksX1_meet_0 4 rfl rfl)
theorem dX1_meet_7 : decode cX1_meet 7 = .ok (.dup, 1) := dk_89 (dk_at dksX1_meet_0 7 rfl rfl)
theorem dX1_meet_8 : decode cX1_meet 8 = .ok (.iload_n 1, 1) := dk_27 (dk_at dksX1_meet_0 8 rfl rfl)
theorem dX1_meet_9 : decode cX1_meet 9 = .ok (.iload_n 2, 1) := dk_28 (dk_at dksX1_meet_0 9 rfl rfl)
theorem dX1_meet_10 : decode cX1_meet 10 = .ok (.aconst_null, 1) := dk_1 (dk_at dksX1_meet_0 10 rfl rfl)
theorem dX1_meet_11 : decode cX1_meet 11 = .ok (.invokespecial 3, 3) := dk_183 0 3 (dk_at dksX1_meet_0 11 rfl rfl)
theorem dX1_meet_14 : decode cX1_meet 14 = .ok (.athrow, 1) := dk_191 (dk_at dksX1_meet_0 14 rfl rfl)
theorem dX1_meet_15 : decode cX1_meet 15 = .ok (.return_, 1) := dk_177 (dk_at dksX1_meet_0 15 rfl rfl)
abbrev cX1_changed : ByteArray := prog_1_method_14_code
def yX1_changed : MethodName := ⟨RX1, "changed", "(LBoxSpans$Deed;)I"⟩
def dkwX1_changed_1 : List UInt8 := [181, 0, 113, 187, 0, 117, 89, 183, 0, 119, 191]
abbrev dktX1_changed_1 : List UInt8 := dkwX1_changed_1 ++ []
def dkwX1_changed_0 : List UInt8 := [42, 180, 0, 21, 182, 0, 99, 77, 42, 44, 43, 44, 185, 0, 103, 2, 0, 182, 0, 109, 172, 78, 42, 45]
abbrev dktX1_changed_0 : List UInt8 := dkwX1_changed_0 ++ dktX1_changed_1
theorem dksX1_changed_0 : cX1_changed.data.toList.drop 0 = dktX1_changed_0 := by decide +kernel
theorem dksX1_changed_1 : cX1_changed.data.toList.drop 24 = dktX1_changed_1 := dk_seg dksX1_changed_0 24 rfl rfl
theorem dX1_changed_0 : decode cX1_changed 0 = .ok (.aload_n 0, 1) := dk_42 (dk_at dksX1_changed_0 0 rfl rfl)
theorem dX1_changed_1 : decode cX1_changed 1 = .ok (.getfield 21, 3) := dk_180 0 21 (dk_at dksX1_changed_0 1 rfl rfl)
theorem dX1_changed_4 : decode cX1_changed 4 = .ok (.invokevirtual 99, 3) := dk_182 0 99 (dk_at dksX1_changed_0 4 rfl rfl)
theorem dX1_changed_7 : decode cX1_changed 7 = .ok (.astore_n 2, 1) := dk_77 (dk_at dksX1_changed_0 7 rfl rfl)
theorem dX1_changed_8 : decode cX1_changed 8 = .ok (.aload_n 0, 1) := dk_42 (dk_at dksX1_changed_0 8 rfl rfl)
theorem dX1_changed_9 : decode cX1_changed 9 = .ok (.aload_n 2, 1) := dk_44 (dk_at dksX1_changed_0 9 rfl rfl)
theorem dX1_changed_10 : decode cX1_changed 10 = .ok (.aload_n 1, 1) := dk_43 (dk_at dksX1_changed_0 10 rfl rfl)
theorem dX1_changed_11 : decode cX1_changed 11 = .ok (.aload_n 2, 1) := dk_44 (dk_at dksX1_changed_0 11 rfl rfl)
theorem dX1_changed_12 : decode cX1_changed 12 = .ok (.invokeinterface 103 2, 5) := by decide +kernel
theorem dX1_changed_17 : decode cX1_changed 17 = .ok (.invokevirtual 109, 3) := dk_182 0 109 (dk_at dksX1_changed_0 17 rfl rfl)
theorem dX1_changed_20 : decode cX1_changed 20 = .ok (.ireturn, 1) := dk_172 (dk_at dksX1_changed_0 20 rfl rfl)
theorem dX1_changed_21 : decode cX1_changed 21 = .ok (.astore_n 3, 1) := dk_78 (dk_at dksX1_changed_0 21 rfl rfl)
theorem dX1_changed_22 : decode cX1_changed 22 = .ok (.aload_n 0, 1) := dk_42 (dk_at dksX1_changed_0 22 rfl rfl)
theorem dX1_changed_23 : decode cX1_changed 23 = .ok (.aload_n 3, 1) := dk_45 (dk_at dksX1_changed_0 23 rfl rfl)
theorem dX1_changed_24 : decode cX1_changed 24 = .ok (.putfield 113, 3) := dk_181 0 113 (dk_at dksX1_changed_1 0 rfl rfl)
theorem dX1_changed_27 : decode cX1_changed 27 = .ok (.new 117, 3) := dk_187 0 117 (dk_at dksX1_changed_1 3 rfl rfl)
theorem dX1_changed_30 : decode cX1_changed 30 = .ok (.dup, 1) := dk_89 (dk_at dksX1_changed_1 6 rfl rfl)
theorem dX1_changed_31 : decode cX1_changed 31 = .ok (.invokespecial 119, 3) := dk_183 0 119 (dk_at dksX1_changed_1 7 rfl rfl)
theorem dX1_changed_34 : decode cX1_changed 34 = .ok (.athrow, 1) := dk_191 (dk_at dksX1_changed_1 10 rfl rfl)
abbrev cX1_become : ByteArray := prog_1_method_13_code
def yX1_become : MethodName := ⟨RX1, "become", "(LBoxSpans$Theatre;I)I"⟩
def dkwX1_become_1 : List UInt8 := [42, 180, 0, 21, 182, 0, 95, 42, 43, 181, 0, 21, 28, 172]
abbrev dktX1_become_1 : List UInt8 := dkwX1_become_1 ++ []
def dkwX1_become_0 : List UInt8 := [42, 180, 0, 28, 182, 0, 90, 16, 8, 160, 0, 11, 42, 180, 0, 28, 182, 0, 91, 87, 42, 180, 0, 28]
abbrev dktX1_become_0 : List UInt8 := dkwX1_become_0 ++ dktX1_become_1
theorem dksX1_become_0 : cX1_become.data.toList.drop 0 = dktX1_become_0 := by decide +kernel
theorem dksX1_become_1 : cX1_become.data.toList.drop 24 = dktX1_become_1 := dk_seg dksX1_become_0 24 rfl rfl
theorem dX1_become_0 : decode cX1_become 0 = .ok (.aload_n 0, 1) := dk_42 (dk_at dksX1_become_0 0 rfl rfl)
theorem dX1_become_1 : decode cX1_become 1 = .ok (.getfield 28, 3) := dk_180 0 28 (dk_at dksX1_become_0 1 rfl rfl)
theorem dX1_become_4 : decode cX1_become 4 = .ok (.invokevirtual 90, 3) := dk_182 0 90 (dk_at dksX1_become_0 4 rfl rfl)
theorem dX1_become_7 : decode cX1_become 7 = .ok (.bipush 8, 2) := dk_16 8 (dk_at dksX1_become_0 7 rfl rfl)
theorem dX1_become_9 : decode cX1_become 9 = .ok (.if_icmp .ne 11, 3) := dk_160 0 11 (dk_at dksX1_become_0 9 rfl rfl)
theorem dX1_become_12 : decode cX1_become 12 = .ok (.aload_n 0, 1) := dk_42 (dk_at dksX1_become_0 12 rfl rfl)
theorem dX1_become_13 : decode cX1_become 13 = .ok (.getfield 28, 3) := dk_180 0 28 (dk_at dksX1_become_0 13 rfl rfl)
theorem dX1_become_16 : decode cX1_become 16 = .ok (.invokevirtual 91, 3) := dk_182 0 91 (dk_at dksX1_become_0 16 rfl rfl)
theorem dX1_become_19 : decode cX1_become 19 = .ok (.pop, 1) := dk_87 (dk_at dksX1_become_0 19 rfl rfl)
theorem dX1_become_20 : decode cX1_become 20 = .ok (.aload_n 0, 1) := dk_42 (dk_at dksX1_become_0 20 rfl rfl)
theorem dX1_become_21 : decode cX1_become 21 = .ok (.getfield 28, 3) := dk_180 0 28 (dk_at dksX1_become_0 21 rfl rfl)
theorem dX1_become_24 : decode cX1_become 24 = .ok (.aload_n 0, 1) := dk_42 (dk_at dksX1_become_1 0 rfl rfl)
theorem dX1_become_25 : decode cX1_become 25 = .ok (.getfield 21, 3) := dk_180 0 21 (dk_at dksX1_become_1 1 rfl rfl)
theorem dX1_become_28 : decode cX1_become 28 = .ok (.invokevirtual 95, 3) := dk_182 0 95 (dk_at dksX1_become_1 4 rfl rfl)
theorem dX1_become_31 : decode cX1_become 31 = .ok (.aload_n 0, 1) := dk_42 (dk_at dksX1_become_1 7 rfl rfl)
theorem dX1_become_32 : decode cX1_become 32 = .ok (.aload_n 1, 1) := dk_43 (dk_at dksX1_become_1 8 rfl rfl)
theorem dX1_become_33 : decode cX1_become 33 = .ok (.putfield 21, 3) := dk_181 0 21 (dk_at dksX1_become_1 9 rfl rfl)
theorem dX1_become_36 : decode cX1_become 36 = .ok (.iload_n 2, 1) := dk_28 (dk_at dksX1_become_1 12 rfl rfl)
theorem dX1_become_37 : decode cX1_become 37 = .ok (.ireturn, 1) := dk_172 (dk_at dksX1_become_1 13 rfl rfl)
abbrev cX1_let : ByteArray := prog_1_method_16_code
def yX1_let : MethodName := ⟨RX1, "let", "(IIII)I"⟩
def dkwX1_let_1 : List UInt8 := [42, 27, 28, 25, 5, 186, 0, 139, 0, 0, 182, 0, 123, 172]
abbrev dktX1_let_1 : List UInt8 := dkwX1_let_1 ++ []
def dkwX1_let_0 : List UInt8 := [42, 27, 182, 0, 127, 28, 29, 21, 4, 184, 0, 131, 187, 0, 135, 89, 29, 21, 4, 183, 0, 137, 58, 5]
abbrev dktX1_let_0 : List UInt8 := dkwX1_let_0 ++ dktX1_let_1
theorem dksX1_let_0 : cX1_let.data.toList.drop 0 = dktX1_let_0 := by decide +kernel
theorem dksX1_let_1 : cX1_let.data.toList.drop 24 = dktX1_let_1 := dk_seg dksX1_let_0 24 rfl rfl
theorem dX1_let_0 : decode cX1_let 0 = .ok (.aload_n 0, 1) := dk_42 (dk_at dksX1_let_0 0 rfl rfl)
theorem dX1_let_1 : decode cX1_let 1 = .ok (.iload_n 1, 1) := dk_27 (dk_at dksX1_let_0 1 rfl rfl)
theorem dX1_let_2 : decode cX1_let 2 = .ok (.invokevirtual 127, 3) := dk_182 0 127 (dk_at dksX1_let_0 2 rfl rfl)
theorem dX1_let_5 : decode cX1_let 5 = .ok (.iload_n 2, 1) := dk_28 (dk_at dksX1_let_0 5 rfl rfl)
theorem dX1_let_6 : decode cX1_let 6 = .ok (.iload_n 3, 1) := dk_29 (dk_at dksX1_let_0 6 rfl rfl)
theorem dX1_let_7 : decode cX1_let 7 = .ok (.iload 4, 2) := dk_21 4 (dk_at dksX1_let_0 7 rfl rfl)
theorem dX1_let_9 : decode cX1_let 9 = .ok (.invokestatic 131, 3) := dk_184 0 131 (dk_at dksX1_let_0 9 rfl rfl)
theorem dX1_let_12 : decode cX1_let 12 = .ok (.new 135, 3) := dk_187 0 135 (dk_at dksX1_let_0 12 rfl rfl)
theorem dX1_let_15 : decode cX1_let 15 = .ok (.dup, 1) := dk_89 (dk_at dksX1_let_0 15 rfl rfl)
theorem dX1_let_16 : decode cX1_let 16 = .ok (.iload_n 3, 1) := dk_29 (dk_at dksX1_let_0 16 rfl rfl)
theorem dX1_let_17 : decode cX1_let 17 = .ok (.iload 4, 2) := dk_21 4 (dk_at dksX1_let_0 17 rfl rfl)
theorem dX1_let_19 : decode cX1_let 19 = .ok (.invokespecial 137, 3) := dk_183 0 137 (dk_at dksX1_let_0 19 rfl rfl)
theorem dX1_let_22 : decode cX1_let 22 = .ok (.astore 5, 2) := dk_58 5 (dk_at dksX1_let_0 22 rfl rfl)
theorem dX1_let_24 : decode cX1_let 24 = .ok (.aload_n 0, 1) := dk_42 (dk_at dksX1_let_1 0 rfl rfl)
theorem dX1_let_25 : decode cX1_let 25 = .ok (.iload_n 1, 1) := dk_27 (dk_at dksX1_let_1 1 rfl rfl)
theorem dX1_let_26 : decode cX1_let 26 = .ok (.iload_n 2, 1) := dk_28 (dk_at dksX1_let_1 2 rfl rfl)
theorem dX1_let_27 : decode cX1_let 27 = .ok (.aload 5, 2) := dk_25 5 (dk_at dksX1_let_1 3 rfl rfl)
theorem dX1_let_29 : decode cX1_let 29 = .ok (.invokedynamic 139, 5) := by decide +kernel
theorem dX1_let_34 : decode cX1_let 34 = .ok (.invokevirtual 123, 3) := dk_182 0 123 (dk_at dksX1_let_1 10 rfl rfl)
theorem dX1_let_37 : decode cX1_let 37 = .ok (.ireturn, 1) := dk_172 (dk_at dksX1_let_1 13 rfl rfl)
abbrev cX1_requireBox : ByteArray := prog_1_method_10_code
def yX1_requireBox : MethodName := ⟨RX1, "requireBox", "(I)V"⟩
def dkwX1_requireBox_0 : List UInt8 := [27, 42, 180, 0, 21, 182, 0, 61, 184, 0, 65, 177]
abbrev dktX1_requireBox_0 : List UInt8 := dkwX1_requireBox_0 ++ []
theorem dksX1_requireBox_0 : cX1_requireBox.data.toList.drop 0 = dktX1_requireBox_0 := by decide +kernel
theorem dX1_requireBox_0 : decode cX1_requireBox 0 = .ok (.iload_n 1, 1) := dk_27 (dk_at dksX1_requireBox_0 0 rfl rfl)
theorem dX1_requireBox_1 : decode cX1_requireBox 1 = .ok (.aload_n 0, 1) := dk_42 (dk_at dksX1_requireBox_0 1 rfl rfl)
theorem dX1_requireBox_2 : decode cX1_requireBox 2 = .ok (.getfield 21, 3) := dk_180 0 21 (dk_at dksX1_requireBox_0 2 rfl rfl)
theorem dX1_requireBox_5 : decode cX1_requireBox 5 = .ok (.invokevirtual 61, 3) := dk_182 0 61 (dk_at dksX1_requireBox_0 5 rfl rfl)
theorem dX1_requireBox_8 : decode cX1_requireBox 8 = .ok (.invokestatic 65, 3) := dk_184 0 65 (dk_at dksX1_requireBox_0 8 rfl rfl)
theorem dX1_requireBox_11 : decode cX1_requireBox 11 = .ok (.return_, 1) := dk_177 (dk_at dksX1_requireBox_0 11 rfl rfl)
abbrev cX1_requireIndex : ByteArray := prog_1_method_9_code
def yX1_requireIndex : MethodName := ⟨RX1, "requireIndex", "(II)V"⟩
def dkwX1_requireIndex_0 : List UInt8 := [26, 3, 27, 4, 100, 184, 0, 9, 154, 0, 11, 187, 0, 58, 89, 183, 0, 60, 191, 177]
abbrev dktX1_requireIndex_0 : List UInt8 := dkwX1_requireIndex_0 ++ []
theorem dksX1_requireIndex_0 : cX1_requireIndex.data.toList.drop 0 = dktX1_requireIndex_0 := by decide +kernel
theorem dX1_requireIndex_0 : decode cX1_requireIndex 0 = .ok (.iload_n 0, 1) := dk_26 (dk_at dksX1_requireIndex_0 0 rfl rfl)
theorem dX1_requireIndex_1 : decode cX1_requireIndex 1 = .ok (.iconst 0, 1) := dk_3 (dk_at dksX1_requireIndex_0 1 rfl rfl)
theorem dX1_requireIndex_2 : decode cX1_requireIndex 2 = .ok (.iload_n 1, 1) := dk_27 (dk_at dksX1_requireIndex_0 2 rfl rfl)
theorem dX1_requireIndex_3 : decode cX1_requireIndex 3 = .ok (.iconst 1, 1) := dk_4 (dk_at dksX1_requireIndex_0 3 rfl rfl)
theorem dX1_requireIndex_4 : decode cX1_requireIndex 4 = .ok (.isub, 1) := dk_100 (dk_at dksX1_requireIndex_0 4 rfl rfl)
theorem dX1_requireIndex_5 : decode cX1_requireIndex 5 = .ok (.invokestatic 9, 3) := dk_184 0 9 (dk_at dksX1_requireIndex_0 5 rfl rfl)
theorem dX1_requireIndex_8 : decode cX1_requireIndex 8 = .ok (.ifCond .ne 11, 3) := dk_154 0 11 (dk_at dksX1_requireIndex_0 8 rfl rfl)
theorem dX1_requireIndex_11 : decode cX1_requireIndex 11 = .ok (.new 58, 3) := dk_187 0 58 (dk_at dksX1_requireIndex_0 11 rfl rfl)
theorem dX1_requireIndex_14 : decode cX1_requireIndex 14 = .ok (.dup, 1) := dk_89 (dk_at dksX1_requireIndex_0 14 rfl rfl)
theorem dX1_requireIndex_15 : decode cX1_requireIndex 15 = .ok (.invokespecial 60, 3) := dk_183 0 60 (dk_at dksX1_requireIndex_0 15 rfl rfl)
theorem dX1_requireIndex_18 : decode cX1_requireIndex 18 = .ok (.athrow, 1) := dk_191 (dk_at dksX1_requireIndex_0 18 rfl rfl)
theorem dX1_requireIndex_19 : decode cX1_requireIndex 19 = .ok (.return_, 1) := dk_177 (dk_at dksX1_requireIndex_0 19 rfl rfl)
abbrev cX1_requireSpan : ByteArray := prog_1_method_12_code
def yX1_requireSpan : MethodName := ⟨RX1, "requireSpan", "(III)V"⟩
def dkwX1_requireSpan_1 : List UInt8 := [184, 0, 86, 177]
abbrev dktX1_requireSpan_1 : List UInt8 := dkwX1_requireSpan_1 ++ []
def dkwX1_requireSpan_0 : List UInt8 := [26, 4, 16, 8, 184, 0, 9, 153, 0, 15, 27, 28, 184, 0, 82, 153, 0, 7, 4, 167, 0, 4, 3]
abbrev dktX1_requireSpan_0 : List UInt8 := dkwX1_requireSpan_0 ++ dktX1_requireSpan_1
theorem dksX1_requireSpan_0 : cX1_requireSpan.data.toList.drop 0 = dktX1_requireSpan_0 := by decide +kernel
theorem dksX1_requireSpan_1 : cX1_requireSpan.data.toList.drop 23 = dktX1_requireSpan_1 := dk_seg dksX1_requireSpan_0 23 rfl rfl
theorem dX1_requireSpan_0 : decode cX1_requireSpan 0 = .ok (.iload_n 0, 1) := dk_26 (dk_at dksX1_requireSpan_0 0 rfl rfl)
theorem dX1_requireSpan_1 : decode cX1_requireSpan 1 = .ok (.iconst 1, 1) := dk_4 (dk_at dksX1_requireSpan_0 1 rfl rfl)
theorem dX1_requireSpan_2 : decode cX1_requireSpan 2 = .ok (.bipush 8, 2) := dk_16 8 (dk_at dksX1_requireSpan_0 2 rfl rfl)
theorem dX1_requireSpan_4 : decode cX1_requireSpan 4 = .ok (.invokestatic 9, 3) := dk_184 0 9 (dk_at dksX1_requireSpan_0 4 rfl rfl)
theorem dX1_requireSpan_7 : decode cX1_requireSpan 7 = .ok (.ifCond .eq 15, 3) := dk_153 0 15 (dk_at dksX1_requireSpan_0 7 rfl rfl)
theorem dX1_requireSpan_10 : decode cX1_requireSpan 10 = .ok (.iload_n 1, 1) := dk_27 (dk_at dksX1_requireSpan_0 10 rfl rfl)
theorem dX1_requireSpan_11 : decode cX1_requireSpan 11 = .ok (.iload_n 2, 1) := dk_28 (dk_at dksX1_requireSpan_0 11 rfl rfl)
theorem dX1_requireSpan_12 : decode cX1_requireSpan 12 = .ok (.invokestatic 82, 3) := dk_184 0 82 (dk_at dksX1_requireSpan_0 12 rfl rfl)
theorem dX1_requireSpan_15 : decode cX1_requireSpan 15 = .ok (.ifCond .eq 7, 3) := dk_153 0 7 (dk_at dksX1_requireSpan_0 15 rfl rfl)
theorem dX1_requireSpan_18 : decode cX1_requireSpan 18 = .ok (.iconst 1, 1) := dk_4 (dk_at dksX1_requireSpan_0 18 rfl rfl)
theorem dX1_requireSpan_19 : decode cX1_requireSpan 19 = .ok (.goto 4, 3) := dk_167 0 4 (dk_at dksX1_requireSpan_0 19 rfl rfl)
theorem dX1_requireSpan_22 : decode cX1_requireSpan 22 = .ok (.iconst 0, 1) := dk_3 (dk_at dksX1_requireSpan_0 22 rfl rfl)
theorem dX1_requireSpan_23 : decode cX1_requireSpan 23 = .ok (.invokestatic 86, 3) := dk_184 0 86 (dk_at dksX1_requireSpan_1 0 rfl rfl)
theorem dX1_requireSpan_26 : decode cX1_requireSpan 26 = .ok (.return_, 1) := dk_177 (dk_at dksX1_requireSpan_1 3 rfl rfl)
abbrev cX1_isSpan : ByteArray := prog_1_method_3_code
def yX1_isSpan : MethodName := ⟨RX1, "isSpan", "(II)Z"⟩
def dkwX1_isSpan_1 : List UInt8 := [4, 167, 0, 4, 3, 172]
abbrev dktX1_isSpan_1 : List UInt8 := dkwX1_isSpan_1 ++ []
def dkwX1_isSpan_0 : List UInt8 := [26, 3, 17, 2, 87, 184, 0, 9, 153, 0, 20, 27, 26, 4, 96, 17, 2, 88, 184, 0, 9, 153, 0, 7]
abbrev dktX1_isSpan_0 : List UInt8 := dkwX1_isSpan_0 ++ dktX1_isSpan_1
theorem dksX1_isSpan_0 : cX1_isSpan.data.toList.drop 0 = dktX1_isSpan_0 := by decide +kernel
theorem dksX1_isSpan_1 : cX1_isSpan.data.toList.drop 24 = dktX1_isSpan_1 := dk_seg dksX1_isSpan_0 24 rfl rfl
theorem dX1_isSpan_0 : decode cX1_isSpan 0 = .ok (.iload_n 0, 1) := dk_26 (dk_at dksX1_isSpan_0 0 rfl rfl)
theorem dX1_isSpan_1 : decode cX1_isSpan 1 = .ok (.iconst 0, 1) := dk_3 (dk_at dksX1_isSpan_0 1 rfl rfl)
theorem dX1_isSpan_2 : decode cX1_isSpan 2 = .ok (.sipush 599, 3) := dk_17 2 87 (dk_at dksX1_isSpan_0 2 rfl rfl)
theorem dX1_isSpan_5 : decode cX1_isSpan 5 = .ok (.invokestatic 9, 3) := dk_184 0 9 (dk_at dksX1_isSpan_0 5 rfl rfl)
theorem dX1_isSpan_8 : decode cX1_isSpan 8 = .ok (.ifCond .eq 20, 3) := dk_153 0 20 (dk_at dksX1_isSpan_0 8 rfl rfl)
theorem dX1_isSpan_11 : decode cX1_isSpan 11 = .ok (.iload_n 1, 1) := dk_27 (dk_at dksX1_isSpan_0 11 rfl rfl)
theorem dX1_isSpan_12 : decode cX1_isSpan 12 = .ok (.iload_n 0, 1) := dk_26 (dk_at dksX1_isSpan_0 12 rfl rfl)
theorem dX1_isSpan_13 : decode cX1_isSpan 13 = .ok (.iconst 1, 1) := dk_4 (dk_at dksX1_isSpan_0 13 rfl rfl)
theorem dX1_isSpan_14 : decode cX1_isSpan 14 = .ok (.iadd, 1) := dk_96 (dk_at dksX1_isSpan_0 14 rfl rfl)
theorem dX1_isSpan_15 : decode cX1_isSpan 15 = .ok (.sipush 600, 3) := dk_17 2 88 (dk_at dksX1_isSpan_0 15 rfl rfl)
theorem dX1_isSpan_18 : decode cX1_isSpan 18 = .ok (.invokestatic 9, 3) := dk_184 0 9 (dk_at dksX1_isSpan_0 18 rfl rfl)
theorem dX1_isSpan_21 : decode cX1_isSpan 21 = .ok (.ifCond .eq 7, 3) := dk_153 0 7 (dk_at dksX1_isSpan_0 21 rfl rfl)
theorem dX1_isSpan_24 : decode cX1_isSpan 24 = .ok (.iconst 1, 1) := dk_4 (dk_at dksX1_isSpan_1 0 rfl rfl)
theorem dX1_isSpan_25 : decode cX1_isSpan 25 = .ok (.goto 4, 3) := dk_167 0 4 (dk_at dksX1_isSpan_1 1 rfl rfl)
theorem dX1_isSpan_28 : decode cX1_isSpan 28 = .ok (.iconst 0, 1) := dk_3 (dk_at dksX1_isSpan_1 4 rfl rfl)
theorem dX1_isSpan_29 : decode cX1_isSpan 29 = .ok (.ireturn, 1) := dk_172 (dk_at dksX1_isSpan_1 5 rfl rfl)
abbrev cX1_lambda_let_1 : ByteArray := prog_1_method_67_code
def yX1_lambda_let_1 : MethodName := ⟨RX1, "lambda$let$1", "(IILBoxSpans$Span;LBoxSpans$Theatre;)I"⟩
def dkwX1_lambda_let_1_0 : List UInt8 := [45, 26, 27, 44, 182, 1, 167, 172]
abbrev dktX1_lambda_let_1_0 : List UInt8 := dkwX1_lambda_let_1_0 ++ []
theorem dksX1_lambda_let_1_0 : cX1_lambda_let_1.data.toList.drop 0 = dktX1_lambda_let_1_0 := by decide +kernel
theorem dX1_lambda_let_1_0 : decode cX1_lambda_let_1 0 = .ok (.aload_n 3, 1) := dk_45 (dk_at dksX1_lambda_let_1_0 0 rfl rfl)
theorem dX1_lambda_let_1_1 : decode cX1_lambda_let_1 1 = .ok (.iload_n 0, 1) := dk_26 (dk_at dksX1_lambda_let_1_0 1 rfl rfl)
theorem dX1_lambda_let_1_2 : decode cX1_lambda_let_1 2 = .ok (.iload_n 1, 1) := dk_27 (dk_at dksX1_lambda_let_1_0 2 rfl rfl)
theorem dX1_lambda_let_1_3 : decode cX1_lambda_let_1 3 = .ok (.aload_n 2, 1) := dk_44 (dk_at dksX1_lambda_let_1_0 3 rfl rfl)
theorem dX1_lambda_let_1_4 : decode cX1_lambda_let_1 4 = .ok (.invokevirtual 423, 3) := dk_182 1 167 (dk_at dksX1_lambda_let_1_0 4 rfl rfl)
theorem dX1_lambda_let_1_7 : decode cX1_lambda_let_1 7 = .ok (.ireturn, 1) := dk_172 (dk_at dksX1_lambda_let_1_0 7 rfl rfl)
abbrev cX1_cancel : ByteArray := prog_1_method_17_code
def yX1_cancel : MethodName := ⟨RX1, "cancel", "(I)I"⟩
def dkwX1_cancel_0 : List UInt8 := [42, 27, 182, 0, 142, 87, 42, 27, 186, 0, 145, 0, 0, 182, 0, 123, 172]
abbrev dktX1_cancel_0 : List UInt8 := dkwX1_cancel_0 ++ []
theorem dksX1_cancel_0 : cX1_cancel.data.toList.drop 0 = dktX1_cancel_0 := by decide +kernel
theorem dX1_cancel_0 : decode cX1_cancel 0 = .ok (.aload_n 0, 1) := dk_42 (dk_at dksX1_cancel_0 0 rfl rfl)
theorem dX1_cancel_1 : decode cX1_cancel 1 = .ok (.iload_n 1, 1) := dk_27 (dk_at dksX1_cancel_0 1 rfl rfl)
theorem dX1_cancel_2 : decode cX1_cancel 2 = .ok (.invokevirtual 142, 3) := dk_182 0 142 (dk_at dksX1_cancel_0 2 rfl rfl)
theorem dX1_cancel_5 : decode cX1_cancel 5 = .ok (.pop, 1) := dk_87 (dk_at dksX1_cancel_0 5 rfl rfl)
theorem dX1_cancel_6 : decode cX1_cancel 6 = .ok (.aload_n 0, 1) := dk_42 (dk_at dksX1_cancel_0 6 rfl rfl)
theorem dX1_cancel_7 : decode cX1_cancel 7 = .ok (.iload_n 1, 1) := dk_27 (dk_at dksX1_cancel_0 7 rfl rfl)
theorem dX1_cancel_8 : decode cX1_cancel 8 = .ok (.invokedynamic 145, 5) := by decide +kernel
theorem dX1_cancel_13 : decode cX1_cancel 13 = .ok (.invokevirtual 123, 3) := dk_182 0 123 (dk_at dksX1_cancel_0 13 rfl rfl)
theorem dX1_cancel_16 : decode cX1_cancel 16 = .ok (.ireturn, 1) := dk_172 (dk_at dksX1_cancel_0 16 rfl rfl)
abbrev cX1_lettingAt : ByteArray := prog_1_method_11_code
def yX1_lettingAt : MethodName := ⟨RX1, "lettingAt", "(I)LBoxSpans$Letting;"⟩
def dkwX1_lettingAt_1 : List UInt8 := [176]
abbrev dktX1_lettingAt_1 : List UInt8 := dkwX1_lettingAt_1 ++ []
def dkwX1_lettingAt_0 : List UInt8 := [27, 42, 180, 0, 21, 182, 0, 69, 185, 0, 73, 1, 0, 184, 0, 65, 42, 180, 0, 21, 27, 182, 0, 78]
abbrev dktX1_lettingAt_0 : List UInt8 := dkwX1_lettingAt_0 ++ dktX1_lettingAt_1
theorem dksX1_lettingAt_0 : cX1_lettingAt.data.toList.drop 0 = dktX1_lettingAt_0 := by decide +kernel
theorem dksX1_lettingAt_1 : cX1_lettingAt.data.toList.drop 24 = dktX1_lettingAt_1 := dk_seg dksX1_lettingAt_0 24 rfl rfl
theorem dX1_lettingAt_0 : decode cX1_lettingAt 0 = .ok (.iload_n 1, 1) := dk_27 (dk_at dksX1_lettingAt_0 0 rfl rfl)
theorem dX1_lettingAt_1 : decode cX1_lettingAt 1 = .ok (.aload_n 0, 1) := dk_42 (dk_at dksX1_lettingAt_0 1 rfl rfl)
theorem dX1_lettingAt_2 : decode cX1_lettingAt 2 = .ok (.getfield 21, 3) := dk_180 0 21 (dk_at dksX1_lettingAt_0 2 rfl rfl)
theorem dX1_lettingAt_5 : decode cX1_lettingAt 5 = .ok (.invokevirtual 69, 3) := dk_182 0 69 (dk_at dksX1_lettingAt_0 5 rfl rfl)
theorem dX1_lettingAt_8 : decode cX1_lettingAt 8 = .ok (.invokeinterface 73 1, 5) := by decide +kernel
theorem dX1_lettingAt_13 : decode cX1_lettingAt 13 = .ok (.invokestatic 65, 3) := dk_184 0 65 (dk_at dksX1_lettingAt_0 13 rfl rfl)
theorem dX1_lettingAt_16 : decode cX1_lettingAt 16 = .ok (.aload_n 0, 1) := dk_42 (dk_at dksX1_lettingAt_0 16 rfl rfl)
theorem dX1_lettingAt_17 : decode cX1_lettingAt 17 = .ok (.getfield 21, 3) := dk_180 0 21 (dk_at dksX1_lettingAt_0 17 rfl rfl)
theorem dX1_lettingAt_20 : decode cX1_lettingAt 20 = .ok (.iload_n 1, 1) := dk_27 (dk_at dksX1_lettingAt_0 20 rfl rfl)
theorem dX1_lettingAt_21 : decode cX1_lettingAt 21 = .ok (.invokevirtual 78, 3) := dk_182 0 78 (dk_at dksX1_lettingAt_0 21 rfl rfl)
theorem dX1_lettingAt_24 : decode cX1_lettingAt 24 = .ok (.areturn, 1) := dk_176 (dk_at dksX1_lettingAt_1 0 rfl rfl)
abbrev cX1_lambda_cancel_2 : ByteArray := prog_1_method_66_code
def yX1_lambda_cancel_2 : MethodName := ⟨RX1, "lambda$cancel$2", "(ILBoxSpans$Theatre;)I"⟩
def dkwX1_lambda_cancel_2_0 : List UInt8 := [43, 26, 182, 1, 164, 172]
abbrev dktX1_lambda_cancel_2_0 : List UInt8 := dkwX1_lambda_cancel_2_0 ++ []
theorem dksX1_lambda_cancel_2_0 : cX1_lambda_cancel_2.data.toList.drop 0 = dktX1_lambda_cancel_2_0 := by decide +kernel
theorem dX1_lambda_cancel_2_0 : decode cX1_lambda_cancel_2 0 = .ok (.aload_n 1, 1) := dk_43 (dk_at dksX1_lambda_cancel_2_0 0 rfl rfl)
theorem dX1_lambda_cancel_2_1 : decode cX1_lambda_cancel_2 1 = .ok (.iload_n 0, 1) := dk_26 (dk_at dksX1_lambda_cancel_2_0 1 rfl rfl)
theorem dX1_lambda_cancel_2_2 : decode cX1_lambda_cancel_2 2 = .ok (.invokevirtual 420, 3) := dk_182 1 164 (dk_at dksX1_lambda_cancel_2_0 2 rfl rfl)
theorem dX1_lambda_cancel_2_5 : decode cX1_lambda_cancel_2 5 = .ok (.ireturn, 1) := dk_172 (dk_at dksX1_lambda_cancel_2_0 5 rfl rfl)
abbrev cX1_move : ByteArray := prog_1_method_18_code
def yX1_move : MethodName := ⟨RX1, "move", "(II)I"⟩
def dkwX1_move_1 : List UInt8 := [186, 0, 146, 0, 0, 182, 0, 123, 172]
abbrev dktX1_move_1 : List UInt8 := dkwX1_move_1 ++ []
def dkwX1_move_0 : List UInt8 := [42, 27, 182, 0, 142, 87, 28, 17, 253, 169, 17, 2, 87, 184, 0, 9, 184, 0, 86, 42, 27, 28]
abbrev dktX1_move_0 : List UInt8 := dkwX1_move_0 ++ dktX1_move_1
theorem dksX1_move_0 : cX1_move.data.toList.drop 0 = dktX1_move_0 := by decide +kernel
theorem dksX1_move_1 : cX1_move.data.toList.drop 22 = dktX1_move_1 := dk_seg dksX1_move_0 22 rfl rfl
theorem dX1_move_0 : decode cX1_move 0 = .ok (.aload_n 0, 1) := dk_42 (dk_at dksX1_move_0 0 rfl rfl)
theorem dX1_move_1 : decode cX1_move 1 = .ok (.iload_n 1, 1) := dk_27 (dk_at dksX1_move_0 1 rfl rfl)
theorem dX1_move_2 : decode cX1_move 2 = .ok (.invokevirtual 142, 3) := dk_182 0 142 (dk_at dksX1_move_0 2 rfl rfl)
theorem dX1_move_5 : decode cX1_move 5 = .ok (.pop, 1) := dk_87 (dk_at dksX1_move_0 5 rfl rfl)
theorem dX1_move_6 : decode cX1_move 6 = .ok (.iload_n 2, 1) := dk_28 (dk_at dksX1_move_0 6 rfl rfl)
theorem dX1_move_7 : decode cX1_move 7 = .ok (.sipush (-599), 3) := dk_17 253 169 (dk_at dksX1_move_0 7 rfl rfl)
theorem dX1_move_10 : decode cX1_move 10 = .ok (.sipush 599, 3) := dk_17 2 87 (dk_at dksX1_move_0 10 rfl rfl)
theorem dX1_move_13 : decode cX1_move 13 = .ok (.invokestatic 9, 3) := dk_184 0 9 (dk_at dksX1_move_0 13 rfl rfl)
theorem dX1_move_16 : decode cX1_move 16 = .ok (.invokestatic 86, 3) := dk_184 0 86 (dk_at dksX1_move_0 16 rfl rfl)
theorem dX1_move_19 : decode cX1_move 19 = .ok (.aload_n 0, 1) := dk_42 (dk_at dksX1_move_0 19 rfl rfl)
theorem dX1_move_20 : decode cX1_move 20 = .ok (.iload_n 1, 1) := dk_27 (dk_at dksX1_move_0 20 rfl rfl)
theorem dX1_move_21 : decode cX1_move 21 = .ok (.iload_n 2, 1) := dk_28 (dk_at dksX1_move_0 21 rfl rfl)
theorem dX1_move_22 : decode cX1_move 22 = .ok (.invokedynamic 146, 5) := by decide +kernel
theorem dX1_move_27 : decode cX1_move 27 = .ok (.invokevirtual 123, 3) := dk_182 0 123 (dk_at dksX1_move_1 5 rfl rfl)
theorem dX1_move_30 : decode cX1_move 30 = .ok (.ireturn, 1) := dk_172 (dk_at dksX1_move_1 8 rfl rfl)
abbrev cX1_lambda_move_3 : ByteArray := prog_1_method_65_code
def yX1_lambda_move_3 : MethodName := ⟨RX1, "lambda$move$3", "(IILBoxSpans$Theatre;)I"⟩
def dkwX1_lambda_move_3_0 : List UInt8 := [44, 26, 27, 182, 1, 161, 172]
abbrev dktX1_lambda_move_3_0 : List UInt8 := dkwX1_lambda_move_3_0 ++ []
theorem dksX1_lambda_move_3_0 : cX1_lambda_move_3.data.toList.drop 0 = dktX1_lambda_move_3_0 := by decide +kernel
theorem dX1_lambda_move_3_0 : decode cX1_lambda_move_3 0 = .ok (.aload_n 2, 1) := dk_44 (dk_at dksX1_lambda_move_3_0 0 rfl rfl)
theorem dX1_lambda_move_3_1 : decode cX1_lambda_move_3 1 = .ok (.iload_n 0, 1) := dk_26 (dk_at dksX1_lambda_move_3_0 1 rfl rfl)
theorem dX1_lambda_move_3_2 : decode cX1_lambda_move_3 2 = .ok (.iload_n 1, 1) := dk_27 (dk_at dksX1_lambda_move_3_0 2 rfl rfl)
theorem dX1_lambda_move_3_3 : decode cX1_lambda_move_3 3 = .ok (.invokevirtual 417, 3) := dk_182 1 161 (dk_at dksX1_lambda_move_3_0 3 rfl rfl)
theorem dX1_lambda_move_3_6 : decode cX1_lambda_move_3 6 = .ok (.ireturn, 1) := dk_172 (dk_at dksX1_lambda_move_3_0 6 rfl rfl)
abbrev cX1_split : ByteArray := prog_1_method_19_code
def yX1_split : MethodName := ⟨RX1, "split", "(II)I"⟩
def dkwX1_split_0 : List UInt8 := [42, 27, 182, 0, 142, 87, 42, 27, 28, 186, 0, 149, 0, 0, 182, 0, 123, 172]
abbrev dktX1_split_0 : List UInt8 := dkwX1_split_0 ++ []
theorem dksX1_split_0 : cX1_split.data.toList.drop 0 = dktX1_split_0 := by decide +kernel
theorem dX1_split_0 : decode cX1_split 0 = .ok (.aload_n 0, 1) := dk_42 (dk_at dksX1_split_0 0 rfl rfl)
theorem dX1_split_1 : decode cX1_split 1 = .ok (.iload_n 1, 1) := dk_27 (dk_at dksX1_split_0 1 rfl rfl)
theorem dX1_split_2 : decode cX1_split 2 = .ok (.invokevirtual 142, 3) := dk_182 0 142 (dk_at dksX1_split_0 2 rfl rfl)
theorem dX1_split_5 : decode cX1_split 5 = .ok (.pop, 1) := dk_87 (dk_at dksX1_split_0 5 rfl rfl)
theorem dX1_split_6 : decode cX1_split 6 = .ok (.aload_n 0, 1) := dk_42 (dk_at dksX1_split_0 6 rfl rfl)
theorem dX1_split_7 : decode cX1_split 7 = .ok (.iload_n 1, 1) := dk_27 (dk_at dksX1_split_0 7 rfl rfl)
theorem dX1_split_8 : decode cX1_split 8 = .ok (.iload_n 2, 1) := dk_28 (dk_at dksX1_split_0 8 rfl rfl)
theorem dX1_split_9 : decode cX1_split 9 = .ok (.invokedynamic 149, 5) := by decide +kernel
theorem dX1_split_14 : decode cX1_split 14 = .ok (.invokevirtual 123, 3) := dk_182 0 123 (dk_at dksX1_split_0 14 rfl rfl)
theorem dX1_split_17 : decode cX1_split 17 = .ok (.ireturn, 1) := dk_172 (dk_at dksX1_split_0 17 rfl rfl)
abbrev cX1_lambda_split_4 : ByteArray := prog_1_method_64_code
def yX1_lambda_split_4 : MethodName := ⟨RX1, "lambda$split$4", "(IILBoxSpans$Theatre;)I"⟩
def dkwX1_lambda_split_4_0 : List UInt8 := [44, 26, 27, 182, 1, 158, 172]
abbrev dktX1_lambda_split_4_0 : List UInt8 := dkwX1_lambda_split_4_0 ++ []
theorem dksX1_lambda_split_4_0 : cX1_lambda_split_4.data.toList.drop 0 = dktX1_lambda_split_4_0 := by decide +kernel
theorem dX1_lambda_split_4_0 : decode cX1_lambda_split_4 0 = .ok (.aload_n 2, 1) := dk_44 (dk_at dksX1_lambda_split_4_0 0 rfl rfl)
theorem dX1_lambda_split_4_1 : decode cX1_lambda_split_4 1 = .ok (.iload_n 0, 1) := dk_26 (dk_at dksX1_lambda_split_4_0 1 rfl rfl)
theorem dX1_lambda_split_4_2 : decode cX1_lambda_split_4 2 = .ok (.iload_n 1, 1) := dk_27 (dk_at dksX1_lambda_split_4_0 2 rfl rfl)
theorem dX1_lambda_split_4_3 : decode cX1_lambda_split_4 3 = .ok (.invokevirtual 414, 3) := dk_182 1 158 (dk_at dksX1_lambda_split_4_0 3 rfl rfl)
theorem dX1_lambda_split_4_6 : decode cX1_lambda_split_4 6 = .ok (.ireturn, 1) := dk_172 (dk_at dksX1_lambda_split_4_0 6 rfl rfl)
abbrev cX1_join : ByteArray := prog_1_method_20_code
def yX1_join : MethodName := ⟨RX1, "join", "(II)I"⟩
def dkwX1_join_1 : List UInt8 := [184, 0, 86, 42, 27, 28, 186, 0, 150, 0, 0, 182, 0, 123, 172]
abbrev dktX1_join_1 : List UInt8 := dkwX1_join_1 ++ []
def dkwX1_join_0 : List UInt8 := [42, 27, 182, 0, 142, 87, 42, 28, 182, 0, 142, 87, 27, 28, 159, 0, 7, 4, 167, 0, 4, 3]
abbrev dktX1_join_0 : List UInt8 := dkwX1_join_0 ++ dktX1_join_1
theorem dksX1_join_0 : cX1_join.data.toList.drop 0 = dktX1_join_0 := by decide +kernel
theorem dksX1_join_1 : cX1_join.data.toList.drop 22 = dktX1_join_1 := dk_seg dksX1_join_0 22 rfl rfl
theorem dX1_join_0 : decode cX1_join 0 = .ok (.aload_n 0, 1) := dk_42 (dk_at dksX1_join_0 0 rfl rfl)
theorem dX1_join_1 : decode cX1_join 1 = .ok (.iload_n 1, 1) := dk_27 (dk_at dksX1_join_0 1 rfl rfl)
theorem dX1_join_2 : decode cX1_join 2 = .ok (.invokevirtual 142, 3) := dk_182 0 142 (dk_at dksX1_join_0 2 rfl rfl)
theorem dX1_join_5 : decode cX1_join 5 = .ok (.pop, 1) := dk_87 (dk_at dksX1_join_0 5 rfl rfl)
theorem dX1_join_6 : decode cX1_join 6 = .ok (.aload_n 0, 1) := dk_42 (dk_at dksX1_join_0 6 rfl rfl)
theorem dX1_join_7 : decode cX1_join 7 = .ok (.iload_n 2, 1) := dk_28 (dk_at dksX1_join_0 7 rfl rfl)
theorem dX1_join_8 : decode cX1_join 8 = .ok (.invokevirtual 142, 3) := dk_182 0 142 (dk_at dksX1_join_0 8 rfl rfl)
theorem dX1_join_11 : decode cX1_join 11 = .ok (.pop, 1) := dk_87 (dk_at dksX1_join_0 11 rfl rfl)
theorem dX1_join_12 : decode cX1_join 12 = .ok (.iload_n 1, 1) := dk_27 (dk_at dksX1_join_0 12 rfl rfl)
theorem dX1_join_13 : decode cX1_join 13 = .ok (.iload_n 2, 1) := dk_28 (dk_at dksX1_join_0 13 rfl rfl)
theorem dX1_join_14 : decode cX1_join 14 = .ok (.if_icmp .eq 7, 3) := dk_159 0 7 (dk_at dksX1_join_0 14 rfl rfl)
theorem dX1_join_17 : decode cX1_join 17 = .ok (.iconst 1, 1) := dk_4 (dk_at dksX1_join_0 17 rfl rfl)
theorem dX1_join_18 : decode cX1_join 18 = .ok (.goto 4, 3) := dk_167 0 4 (dk_at dksX1_join_0 18 rfl rfl)
theorem dX1_join_21 : decode cX1_join 21 = .ok (.iconst 0, 1) := dk_3 (dk_at dksX1_join_0 21 rfl rfl)
theorem dX1_join_22 : decode cX1_join 22 = .ok (.invokestatic 86, 3) := dk_184 0 86 (dk_at dksX1_join_1 0 rfl rfl)
theorem dX1_join_25 : decode cX1_join 25 = .ok (.aload_n 0, 1) := dk_42 (dk_at dksX1_join_1 3 rfl rfl)
theorem dX1_join_26 : decode cX1_join 26 = .ok (.iload_n 1, 1) := dk_27 (dk_at dksX1_join_1 4 rfl rfl)
theorem dX1_join_27 : decode cX1_join 27 = .ok (.iload_n 2, 1) := dk_28 (dk_at dksX1_join_1 5 rfl rfl)
theorem dX1_join_28 : decode cX1_join 28 = .ok (.invokedynamic 150, 5) := by decide +kernel
theorem dX1_join_33 : decode cX1_join 33 = .ok (.invokevirtual 123, 3) := dk_182 0 123 (dk_at dksX1_join_1 11 rfl rfl)
theorem dX1_join_36 : decode cX1_join 36 = .ok (.ireturn, 1) := dk_172 (dk_at dksX1_join_1 14 rfl rfl)
abbrev cX1_lambda_join_5 : ByteArray := prog_1_method_63_code
def yX1_lambda_join_5 : MethodName := ⟨RX1, "lambda$join$5", "(IILBoxSpans$Theatre;)I"⟩
def dkwX1_lambda_join_5_0 : List UInt8 := [44, 26, 27, 182, 1, 155, 172]
abbrev dktX1_lambda_join_5_0 : List UInt8 := dkwX1_lambda_join_5_0 ++ []
theorem dksX1_lambda_join_5_0 : cX1_lambda_join_5.data.toList.drop 0 = dktX1_lambda_join_5_0 := by decide +kernel
theorem dX1_lambda_join_5_0 : decode cX1_lambda_join_5 0 = .ok (.aload_n 2, 1) := dk_44 (dk_at dksX1_lambda_join_5_0 0 rfl rfl)
theorem dX1_lambda_join_5_1 : decode cX1_lambda_join_5 1 = .ok (.iload_n 0, 1) := dk_26 (dk_at dksX1_lambda_join_5_0 1 rfl rfl)
theorem dX1_lambda_join_5_2 : decode cX1_lambda_join_5 2 = .ok (.iload_n 1, 1) := dk_27 (dk_at dksX1_lambda_join_5_0 2 rfl rfl)
theorem dX1_lambda_join_5_3 : decode cX1_lambda_join_5 3 = .ok (.invokevirtual 411, 3) := dk_182 1 155 (dk_at dksX1_lambda_join_5_0 3 rfl rfl)
theorem dX1_lambda_join_5_6 : decode cX1_lambda_join_5 6 = .ok (.ireturn, 1) := dk_172 (dk_at dksX1_lambda_join_5_0 6 rfl rfl)
abbrev cX1_lettingOf : ByteArray := prog_1_method_21_code
def yX1_lettingOf : MethodName := ⟨RX1, "lettingOf", "(II)I"⟩
def dkwX1_lettingOf_4 : List UInt8 := [187, 0, 49, 89, 183, 0, 51, 191, 172]
abbrev dktX1_lettingOf_4 : List UInt8 := dkwX1_lettingOf_4 ++ []
def dkwX1_lettingOf_3 : List UInt8 := [182, 0, 162, 167, 0, 28, 45, 182, 0, 165, 184, 0, 169, 167, 0, 18, 45, 182, 0, 173, 167, 0, 11]
abbrev dktX1_lettingOf_3 : List UInt8 := dkwX1_lettingOf_3 ++ dktX1_lettingOf_4
def dkwX1_lettingOf_2 : List UInt8 := [45, 182, 0, 151, 167, 0, 49, 45, 182, 0, 156, 167, 0, 42, 45, 182, 0, 159, 167, 0, 35, 45]
abbrev dktX1_lettingOf_2 : List UInt8 := dkwX1_lettingOf_2 ++ dktX1_lettingOf_3
def dkwX1_lettingOf_1 : List UInt8 := [170, 0, 0, 0, 82, 0, 0, 0, 0, 0, 0, 0, 5, 0, 0, 0, 37, 0, 0, 0, 44, 0, 0, 0, 51, 0, 0, 0, 58, 0, 0, 0, 65, 0, 0, 0, 75]
abbrev dktX1_lettingOf_1 : List UInt8 := dkwX1_lettingOf_1 ++ dktX1_lettingOf_2
def dkwX1_lettingOf_0 : List UInt8 := [42, 27, 182, 0, 142, 78, 28]
abbrev dktX1_lettingOf_0 : List UInt8 := dkwX1_lettingOf_0 ++ dktX1_lettingOf_1
theorem dksX1_lettingOf_0 : cX1_lettingOf.data.toList.drop 0 = dktX1_lettingOf_0 := by decide +kernel
theorem dksX1_lettingOf_1 : cX1_lettingOf.data.toList.drop 7 = dktX1_lettingOf_1 := dk_seg dksX1_lettingOf_0 7 rfl rfl
theorem dksX1_lettingOf_2 : cX1_lettingOf.data.toList.drop 44 = dktX1_lettingOf_2 := dk_seg dksX1_lettingOf_1 37 rfl rfl
theorem dksX1_lettingOf_3 : cX1_lettingOf.data.toList.drop 66 = dktX1_lettingOf_3 := dk_seg dksX1_lettingOf_2 22 rfl rfl
theorem dksX1_lettingOf_4 : cX1_lettingOf.data.toList.drop 89 = dktX1_lettingOf_4 := dk_seg dksX1_lettingOf_3 23 rfl rfl
theorem dX1_lettingOf_0 : decode cX1_lettingOf 0 = .ok (.aload_n 0, 1) := dk_42 (dk_at dksX1_lettingOf_0 0 rfl rfl)
theorem dX1_lettingOf_1 : decode cX1_lettingOf 1 = .ok (.iload_n 1, 1) := dk_27 (dk_at dksX1_lettingOf_0 1 rfl rfl)
theorem dX1_lettingOf_2 : decode cX1_lettingOf 2 = .ok (.invokevirtual 142, 3) := dk_182 0 142 (dk_at dksX1_lettingOf_0 2 rfl rfl)
theorem dX1_lettingOf_5 : decode cX1_lettingOf 5 = .ok (.astore_n 3, 1) := dk_78 (dk_at dksX1_lettingOf_0 5 rfl rfl)
theorem dX1_lettingOf_6 : decode cX1_lettingOf 6 = .ok (.iload_n 2, 1) := dk_28 (dk_at dksX1_lettingOf_0 6 rfl rfl)
theorem dX1_lettingOf_7 : decode cX1_lettingOf 7 = .ok (.tableswitch 82 0 5 #[37, 44, 51, 58, 65, 75], 37) := by decide +kernel
theorem dX1_lettingOf_44 : decode cX1_lettingOf 44 = .ok (.aload_n 3, 1) := dk_45 (dk_at dksX1_lettingOf_2 0 rfl rfl)
theorem dX1_lettingOf_45 : decode cX1_lettingOf 45 = .ok (.invokevirtual 151, 3) := dk_182 0 151 (dk_at dksX1_lettingOf_2 1 rfl rfl)
theorem dX1_lettingOf_48 : decode cX1_lettingOf 48 = .ok (.goto 49, 3) := dk_167 0 49 (dk_at dksX1_lettingOf_2 4 rfl rfl)
theorem dX1_lettingOf_51 : decode cX1_lettingOf 51 = .ok (.aload_n 3, 1) := dk_45 (dk_at dksX1_lettingOf_2 7 rfl rfl)
theorem dX1_lettingOf_52 : decode cX1_lettingOf 52 = .ok (.invokevirtual 156, 3) := dk_182 0 156 (dk_at dksX1_lettingOf_2 8 rfl rfl)
theorem dX1_lettingOf_55 : decode cX1_lettingOf 55 = .ok (.goto 42, 3) := dk_167 0 42 (dk_at dksX1_lettingOf_2 11 rfl rfl)
theorem dX1_lettingOf_58 : decode cX1_lettingOf 58 = .ok (.aload_n 3, 1) := dk_45 (dk_at dksX1_lettingOf_2 14 rfl rfl)
theorem dX1_lettingOf_59 : decode cX1_lettingOf 59 = .ok (.invokevirtual 159, 3) := dk_182 0 159 (dk_at dksX1_lettingOf_2 15 rfl rfl)
theorem dX1_lettingOf_62 : decode cX1_lettingOf 62 = .ok (.goto 35, 3) := dk_167 0 35 (dk_at dksX1_lettingOf_2 18 rfl rfl)
theorem dX1_lettingOf_65 : decode cX1_lettingOf 65 = .ok (.aload_n 3, 1) := dk_45 (dk_at dksX1_lettingOf_2 21 rfl rfl)
theorem dX1_lettingOf_66 : decode cX1_lettingOf 66 = .ok (.invokevirtual 162, 3) := dk_182 0 162 (dk_at dksX1_lettingOf_3 0 rfl rfl)
theorem dX1_lettingOf_69 : decode cX1_lettingOf 69 = .ok (.goto 28, 3) := dk_167 0 28 (dk_at dksX1_lettingOf_3 3 rfl rfl)
theorem dX1_lettingOf_72 : decode cX1_lettingOf 72 = .ok (.aload_n 3, 1) := dk_45 (dk_at dksX1_lettingOf_3 6 rfl rfl)
theorem dX1_lettingOf_73 : decode cX1_lettingOf 73 = .ok (.invokevirtual 165, 3) := dk_182 0 165 (dk_at dksX1_lettingOf_3 7 rfl rfl)
theorem dX1_lettingOf_76 : decode cX1_lettingOf 76 = .ok (.invokestatic 169, 3) := dk_184 0 169 (dk_at dksX1_lettingOf_3 10 rfl rfl)
theorem dX1_lettingOf_79 : decode cX1_lettingOf 79 = .ok (.goto 18, 3) := dk_167 0 18 (dk_at dksX1_lettingOf_3 13 rfl rfl)
theorem dX1_lettingOf_82 : decode cX1_lettingOf 82 = .ok (.aload_n 3, 1) := dk_45 (dk_at dksX1_lettingOf_3 16 rfl rfl)
theorem dX1_lettingOf_83 : decode cX1_lettingOf 83 = .ok (.invokevirtual 173, 3) := dk_182 0 173 (dk_at dksX1_lettingOf_3 17 rfl rfl)
theorem dX1_lettingOf_86 : decode cX1_lettingOf 86 = .ok (.goto 11, 3) := dk_167 0 11 (dk_at dksX1_lettingOf_3 20 rfl rfl)
theorem dX1_lettingOf_89 : decode cX1_lettingOf 89 = .ok (.new 49, 3) := dk_187 0 49 (dk_at dksX1_lettingOf_4 0 rfl rfl)
theorem dX1_lettingOf_92 : decode cX1_lettingOf 92 = .ok (.dup, 1) := dk_89 (dk_at dksX1_lettingOf_4 3 rfl rfl)
theorem dX1_lettingOf_93 : decode cX1_lettingOf 93 = .ok (.invokespecial 51, 3) := dk_183 0 51 (dk_at dksX1_lettingOf_4 4 rfl rfl)
theorem dX1_lettingOf_96 : decode cX1_lettingOf 96 = .ok (.athrow, 1) := dk_191 (dk_at dksX1_lettingOf_4 7 rfl rfl)
theorem dX1_lettingOf_97 : decode cX1_lettingOf 97 = .ok (.ireturn, 1) := dk_172 (dk_at dksX1_lettingOf_4 8 rfl rfl)
abbrev cX1_asNumber : ByteArray := prog_1_method_4_code
def yX1_asNumber : MethodName := ⟨RX1, "asNumber", "(Z)I"⟩
def dkwX1_asNumber_0 : List UInt8 := [26, 153, 0, 7, 4, 167, 0, 4, 3, 172]
abbrev dktX1_asNumber_0 : List UInt8 := dkwX1_asNumber_0 ++ []
theorem dksX1_asNumber_0 : cX1_asNumber.data.toList.drop 0 = dktX1_asNumber_0 := by decide +kernel
theorem dX1_asNumber_0 : decode cX1_asNumber 0 = .ok (.iload_n 0, 1) := dk_26 (dk_at dksX1_asNumber_0 0 rfl rfl)
theorem dX1_asNumber_1 : decode cX1_asNumber 1 = .ok (.ifCond .eq 7, 3) := dk_153 0 7 (dk_at dksX1_asNumber_0 1 rfl rfl)
theorem dX1_asNumber_4 : decode cX1_asNumber 4 = .ok (.iconst 1, 1) := dk_4 (dk_at dksX1_asNumber_0 4 rfl rfl)
theorem dX1_asNumber_5 : decode cX1_asNumber 5 = .ok (.goto 4, 3) := dk_167 0 4 (dk_at dksX1_asNumber_0 5 rfl rfl)
theorem dX1_asNumber_8 : decode cX1_asNumber 8 = .ok (.iconst 0, 1) := dk_3 (dk_at dksX1_asNumber_0 8 rfl rfl)
theorem dX1_asNumber_9 : decode cX1_asNumber 9 = .ok (.ireturn, 1) := dk_172 (dk_at dksX1_asNumber_0 9 rfl rfl)
abbrev cX1_at : ByteArray := prog_1_method_23_code
def yX1_at : MethodName := ⟨RX1, "at", "(II)I"⟩
def dkwX1_at_0 : List UInt8 := [42, 27, 182, 0, 127, 28, 184, 0, 176, 42, 180, 0, 21, 27, 28, 182, 0, 179, 172]
abbrev dktX1_at_0 : List UInt8 := dkwX1_at_0 ++ []
theorem dksX1_at_0 : cX1_at.data.toList.drop 0 = dktX1_at_0 := by decide +kernel
theorem dX1_at_0 : decode cX1_at 0 = .ok (.aload_n 0, 1) := dk_42 (dk_at dksX1_at_0 0 rfl rfl)
theorem dX1_at_1 : decode cX1_at 1 = .ok (.iload_n 1, 1) := dk_27 (dk_at dksX1_at_0 1 rfl rfl)
theorem dX1_at_2 : decode cX1_at 2 = .ok (.invokevirtual 127, 3) := dk_182 0 127 (dk_at dksX1_at_0 2 rfl rfl)
theorem dX1_at_5 : decode cX1_at 5 = .ok (.iload_n 2, 1) := dk_28 (dk_at dksX1_at_0 5 rfl rfl)
theorem dX1_at_6 : decode cX1_at 6 = .ok (.invokestatic 176, 3) := dk_184 0 176 (dk_at dksX1_at_0 6 rfl rfl)
theorem dX1_at_9 : decode cX1_at 9 = .ok (.aload_n 0, 1) := dk_42 (dk_at dksX1_at_0 9 rfl rfl)
theorem dX1_at_10 : decode cX1_at 10 = .ok (.getfield 21, 3) := dk_180 0 21 (dk_at dksX1_at_0 10 rfl rfl)
theorem dX1_at_13 : decode cX1_at 13 = .ok (.iload_n 1, 1) := dk_27 (dk_at dksX1_at_0 13 rfl rfl)
theorem dX1_at_14 : decode cX1_at 14 = .ok (.iload_n 2, 1) := dk_28 (dk_at dksX1_at_0 14 rfl rfl)
theorem dX1_at_15 : decode cX1_at 15 = .ok (.invokevirtual 179, 3) := dk_182 0 179 (dk_at dksX1_at_0 15 rfl rfl)
theorem dX1_at_18 : decode cX1_at 18 = .ok (.ireturn, 1) := dk_172 (dk_at dksX1_at_0 18 rfl rfl)
abbrev cX1_requireMinute : ByteArray := prog_1_method_22_code
def yX1_requireMinute : MethodName := ⟨RX1, "requireMinute", "(I)V"⟩
def dkwX1_requireMinute_0 : List UInt8 := [26, 3, 17, 2, 87, 184, 0, 9, 184, 0, 86, 177]
abbrev dktX1_requireMinute_0 : List UInt8 := dkwX1_requireMinute_0 ++ []
theorem dksX1_requireMinute_0 : cX1_requireMinute.data.toList.drop 0 = dktX1_requireMinute_0 := by decide +kernel
theorem dX1_requireMinute_0 : decode cX1_requireMinute 0 = .ok (.iload_n 0, 1) := dk_26 (dk_at dksX1_requireMinute_0 0 rfl rfl)
theorem dX1_requireMinute_1 : decode cX1_requireMinute 1 = .ok (.iconst 0, 1) := dk_3 (dk_at dksX1_requireMinute_0 1 rfl rfl)
theorem dX1_requireMinute_2 : decode cX1_requireMinute 2 = .ok (.sipush 599, 3) := dk_17 2 87 (dk_at dksX1_requireMinute_0 2 rfl rfl)
theorem dX1_requireMinute_5 : decode cX1_requireMinute 5 = .ok (.invokestatic 9, 3) := dk_184 0 9 (dk_at dksX1_requireMinute_0 5 rfl rfl)
theorem dX1_requireMinute_8 : decode cX1_requireMinute 8 = .ok (.invokestatic 86, 3) := dk_184 0 86 (dk_at dksX1_requireMinute_0 8 rfl rfl)
theorem dX1_requireMinute_11 : decode cX1_requireMinute 11 = .ok (.return_, 1) := dk_177 (dk_at dksX1_requireMinute_0 11 rfl rfl)
abbrev cX1_wish : ByteArray := prog_1_method_24_code
def yX1_wish : MethodName := ⟨RX1, "wish", "(III)I"⟩
def dkwX1_wish_1 : List UInt8 := [186, 0, 183, 0, 0, 182, 0, 123, 172]
abbrev dktX1_wish_1 : List UInt8 := dkwX1_wish_1 ++ []
def dkwX1_wish_0 : List UInt8 := [27, 28, 29, 184, 0, 131, 187, 0, 135, 89, 28, 29, 183, 0, 137, 58, 4, 42, 27, 25, 4]
abbrev dktX1_wish_0 : List UInt8 := dkwX1_wish_0 ++ dktX1_wish_1
theorem dksX1_wish_0 : cX1_wish.data.toList.drop 0 = dktX1_wish_0 := by decide +kernel
theorem dksX1_wish_1 : cX1_wish.data.toList.drop 21 = dktX1_wish_1 := dk_seg dksX1_wish_0 21 rfl rfl
theorem dX1_wish_0 : decode cX1_wish 0 = .ok (.iload_n 1, 1) := dk_27 (dk_at dksX1_wish_0 0 rfl rfl)
theorem dX1_wish_1 : decode cX1_wish 1 = .ok (.iload_n 2, 1) := dk_28 (dk_at dksX1_wish_0 1 rfl rfl)
theorem dX1_wish_2 : decode cX1_wish 2 = .ok (.iload_n 3, 1) := dk_29 (dk_at dksX1_wish_0 2 rfl rfl)
theorem dX1_wish_3 : decode cX1_wish 3 = .ok (.invokestatic 131, 3) := dk_184 0 131 (dk_at dksX1_wish_0 3 rfl rfl)
theorem dX1_wish_6 : decode cX1_wish 6 = .ok (.new 135, 3) := dk_187 0 135 (dk_at dksX1_wish_0 6 rfl rfl)
theorem dX1_wish_9 : decode cX1_wish 9 = .ok (.dup, 1) := dk_89 (dk_at dksX1_wish_0 9 rfl rfl)
theorem dX1_wish_10 : decode cX1_wish 10 = .ok (.iload_n 2, 1) := dk_28 (dk_at dksX1_wish_0 10 rfl rfl)
theorem dX1_wish_11 : decode cX1_wish 11 = .ok (.iload_n 3, 1) := dk_29 (dk_at dksX1_wish_0 11 rfl rfl)
theorem dX1_wish_12 : decode cX1_wish 12 = .ok (.invokespecial 137, 3) := dk_183 0 137 (dk_at dksX1_wish_0 12 rfl rfl)
theorem dX1_wish_15 : decode cX1_wish 15 = .ok (.astore 4, 2) := dk_58 4 (dk_at dksX1_wish_0 15 rfl rfl)
theorem dX1_wish_17 : decode cX1_wish 17 = .ok (.aload_n 0, 1) := dk_42 (dk_at dksX1_wish_0 17 rfl rfl)
theorem dX1_wish_18 : decode cX1_wish 18 = .ok (.iload_n 1, 1) := dk_27 (dk_at dksX1_wish_0 18 rfl rfl)
theorem dX1_wish_19 : decode cX1_wish 19 = .ok (.aload 4, 2) := dk_25 4 (dk_at dksX1_wish_0 19 rfl rfl)
theorem dX1_wish_21 : decode cX1_wish 21 = .ok (.invokedynamic 183, 5) := by decide +kernel
theorem dX1_wish_26 : decode cX1_wish 26 = .ok (.invokevirtual 123, 3) := dk_182 0 123 (dk_at dksX1_wish_1 5 rfl rfl)
theorem dX1_wish_29 : decode cX1_wish 29 = .ok (.ireturn, 1) := dk_172 (dk_at dksX1_wish_1 8 rfl rfl)
abbrev cX1_lambda_wish_6 : ByteArray := prog_1_method_62_code
def yX1_lambda_wish_6 : MethodName := ⟨RX1, "lambda$wish$6", "(ILBoxSpans$Span;LBoxSpans$Theatre;)I"⟩
def dkwX1_lambda_wish_6_0 : List UInt8 := [44, 26, 43, 182, 1, 152, 172]
abbrev dktX1_lambda_wish_6_0 : List UInt8 := dkwX1_lambda_wish_6_0 ++ []
theorem dksX1_lambda_wish_6_0 : cX1_lambda_wish_6.data.toList.drop 0 = dktX1_lambda_wish_6_0 := by decide +kernel
theorem dX1_lambda_wish_6_0 : decode cX1_lambda_wish_6 0 = .ok (.aload_n 2, 1) := dk_44 (dk_at dksX1_lambda_wish_6_0 0 rfl rfl)
theorem dX1_lambda_wish_6_1 : decode cX1_lambda_wish_6 1 = .ok (.iload_n 0, 1) := dk_26 (dk_at dksX1_lambda_wish_6_0 1 rfl rfl)
theorem dX1_lambda_wish_6_2 : decode cX1_lambda_wish_6 2 = .ok (.aload_n 1, 1) := dk_43 (dk_at dksX1_lambda_wish_6_0 2 rfl rfl)
theorem dX1_lambda_wish_6_3 : decode cX1_lambda_wish_6 3 = .ok (.invokevirtual 408, 3) := dk_182 1 152 (dk_at dksX1_lambda_wish_6_0 3 rfl rfl)
theorem dX1_lambda_wish_6_6 : decode cX1_lambda_wish_6 6 = .ok (.ireturn, 1) := dk_172 (dk_at dksX1_lambda_wish_6_0 6 rfl rfl)
abbrev cX1_drop : ByteArray := prog_1_method_25_code
def yX1_drop : MethodName := ⟨RX1, "drop", "(I)I"⟩
def dkwX1_drop_1 : List UInt8 := [182, 0, 123, 172]
abbrev dktX1_drop_1 : List UInt8 := dkwX1_drop_1 ++ []
def dkwX1_drop_0 : List UInt8 := [27, 42, 180, 0, 21, 182, 0, 186, 185, 0, 73, 1, 0, 184, 0, 65, 42, 27, 186, 0, 189, 0, 0]
abbrev dktX1_drop_0 : List UInt8 := dkwX1_drop_0 ++ dktX1_drop_1
theorem dksX1_drop_0 : cX1_drop.data.toList.drop 0 = dktX1_drop_0 := by decide +kernel
theorem dksX1_drop_1 : cX1_drop.data.toList.drop 23 = dktX1_drop_1 := dk_seg dksX1_drop_0 23 rfl rfl
theorem dX1_drop_0 : decode cX1_drop 0 = .ok (.iload_n 1, 1) := dk_27 (dk_at dksX1_drop_0 0 rfl rfl)
theorem dX1_drop_1 : decode cX1_drop 1 = .ok (.aload_n 0, 1) := dk_42 (dk_at dksX1_drop_0 1 rfl rfl)
theorem dX1_drop_2 : decode cX1_drop 2 = .ok (.getfield 21, 3) := dk_180 0 21 (dk_at dksX1_drop_0 2 rfl rfl)
theorem dX1_drop_5 : decode cX1_drop 5 = .ok (.invokevirtual 186, 3) := dk_182 0 186 (dk_at dksX1_drop_0 5 rfl rfl)
theorem dX1_drop_8 : decode cX1_drop 8 = .ok (.invokeinterface 73 1, 5) := by decide +kernel
theorem dX1_drop_13 : decode cX1_drop 13 = .ok (.invokestatic 65, 3) := dk_184 0 65 (dk_at dksX1_drop_0 13 rfl rfl)
theorem dX1_drop_16 : decode cX1_drop 16 = .ok (.aload_n 0, 1) := dk_42 (dk_at dksX1_drop_0 16 rfl rfl)
theorem dX1_drop_17 : decode cX1_drop 17 = .ok (.iload_n 1, 1) := dk_27 (dk_at dksX1_drop_0 17 rfl rfl)
theorem dX1_drop_18 : decode cX1_drop 18 = .ok (.invokedynamic 189, 5) := by decide +kernel
theorem dX1_drop_23 : decode cX1_drop 23 = .ok (.invokevirtual 123, 3) := dk_182 0 123 (dk_at dksX1_drop_1 0 rfl rfl)
theorem dX1_drop_26 : decode cX1_drop 26 = .ok (.ireturn, 1) := dk_172 (dk_at dksX1_drop_1 3 rfl rfl)
abbrev cX1_lambda_drop_7 : ByteArray := prog_1_method_61_code
def yX1_lambda_drop_7 : MethodName := ⟨RX1, "lambda$drop$7", "(ILBoxSpans$Theatre;)I"⟩
def dkwX1_lambda_drop_7_0 : List UInt8 := [43, 26, 182, 1, 149, 172]
abbrev dktX1_lambda_drop_7_0 : List UInt8 := dkwX1_lambda_drop_7_0 ++ []
theorem dksX1_lambda_drop_7_0 : cX1_lambda_drop_7.data.toList.drop 0 = dktX1_lambda_drop_7_0 := by decide +kernel
theorem dX1_lambda_drop_7_0 : decode cX1_lambda_drop_7 0 = .ok (.aload_n 1, 1) := dk_43 (dk_at dksX1_lambda_drop_7_0 0 rfl rfl)
theorem dX1_lambda_drop_7_1 : decode cX1_lambda_drop_7 1 = .ok (.iload_n 0, 1) := dk_26 (dk_at dksX1_lambda_drop_7_0 1 rfl rfl)
theorem dX1_lambda_drop_7_2 : decode cX1_lambda_drop_7 2 = .ok (.invokevirtual 405, 3) := dk_182 1 149 (dk_at dksX1_lambda_drop_7_0 2 rfl rfl)
theorem dX1_lambda_drop_7_5 : decode cX1_lambda_drop_7 5 = .ok (.ireturn, 1) := dk_172 (dk_at dksX1_lambda_drop_7_0 5 rfl rfl)
abbrev cX1_wishOf : ByteArray := prog_1_method_26_code
def yX1_wishOf : MethodName := ⟨RX1, "wishOf", "(II)I"⟩
def dkwX1_wishOf_4 : List UInt8 := [89, 183, 0, 51, 191, 172]
abbrev dktX1_wishOf_4 : List UInt8 := dkwX1_wishOf_4 ++ []
def dkwX1_wishOf_3 : List UInt8 := [45, 182, 0, 196, 167, 0, 25, 45, 182, 0, 197, 167, 0, 18, 45, 182, 0, 198, 167, 0, 11, 187, 0, 49]
abbrev dktX1_wishOf_3 : List UInt8 := dkwX1_wishOf_3 ++ dktX1_wishOf_4
def dkwX1_wishOf_2 : List UInt8 := [170, 0, 0, 0, 0, 47, 0, 0, 0, 0, 0, 0, 0, 2, 0, 0, 0, 26, 0, 0, 0, 33, 0, 0, 0, 40]
abbrev dktX1_wishOf_2 : List UInt8 := dkwX1_wishOf_2 ++ dktX1_wishOf_3
def dkwX1_wishOf_1 : List UInt8 := [185, 0, 190, 2, 0, 192, 0, 194, 78, 28]
abbrev dktX1_wishOf_1 : List UInt8 := dkwX1_wishOf_1 ++ dktX1_wishOf_2
def dkwX1_wishOf_0 : List UInt8 := [27, 42, 180, 0, 21, 182, 0, 186, 185, 0, 73, 1, 0, 184, 0, 65, 42, 180, 0, 21, 182, 0, 186, 27]
abbrev dktX1_wishOf_0 : List UInt8 := dkwX1_wishOf_0 ++ dktX1_wishOf_1
theorem dksX1_wishOf_0 : cX1_wishOf.data.toList.drop 0 = dktX1_wishOf_0 := by decide +kernel
theorem dksX1_wishOf_1 : cX1_wishOf.data.toList.drop 24 = dktX1_wishOf_1 := dk_seg dksX1_wishOf_0 24 rfl rfl
theorem dksX1_wishOf_2 : cX1_wishOf.data.toList.drop 34 = dktX1_wishOf_2 := dk_seg dksX1_wishOf_1 10 rfl rfl
theorem dksX1_wishOf_3 : cX1_wishOf.data.toList.drop 60 = dktX1_wishOf_3 := dk_seg dksX1_wishOf_2 26 rfl rfl
theorem dksX1_wishOf_4 : cX1_wishOf.data.toList.drop 84 = dktX1_wishOf_4 := dk_seg dksX1_wishOf_3 24 rfl rfl
theorem dX1_wishOf_0 : decode cX1_wishOf 0 = .ok (.iload_n 1, 1) := dk_27 (dk_at dksX1_wishOf_0 0 rfl rfl)
theorem dX1_wishOf_1 : decode cX1_wishOf 1 = .ok (.aload_n 0, 1) := dk_42 (dk_at dksX1_wishOf_0 1 rfl rfl)
theorem dX1_wishOf_2 : decode cX1_wishOf 2 = .ok (.getfield 21, 3) := dk_180 0 21 (dk_at dksX1_wishOf_0 2 rfl rfl)
theorem dX1_wishOf_5 : decode cX1_wishOf 5 = .ok (.invokevirtual 186, 3) := dk_182 0 186 (dk_at dksX1_wishOf_0 5 rfl rfl)
theorem dX1_wishOf_8 : decode cX1_wishOf 8 = .ok (.invokeinterface 73 1, 5) := by decide +kernel
theorem dX1_wishOf_13 : decode cX1_wishOf 13 = .ok (.invokestatic 65, 3) := dk_184 0 65 (dk_at dksX1_wishOf_0 13 rfl rfl)
theorem dX1_wishOf_16 : decode cX1_wishOf 16 = .ok (.aload_n 0, 1) := dk_42 (dk_at dksX1_wishOf_0 16 rfl rfl)
theorem dX1_wishOf_17 : decode cX1_wishOf 17 = .ok (.getfield 21, 3) := dk_180 0 21 (dk_at dksX1_wishOf_0 17 rfl rfl)
theorem dX1_wishOf_20 : decode cX1_wishOf 20 = .ok (.invokevirtual 186, 3) := dk_182 0 186 (dk_at dksX1_wishOf_0 20 rfl rfl)
theorem dX1_wishOf_23 : decode cX1_wishOf 23 = .ok (.iload_n 1, 1) := dk_27 (dk_at dksX1_wishOf_0 23 rfl rfl)
theorem dX1_wishOf_24 : decode cX1_wishOf 24 = .ok (.invokeinterface 190 2, 5) := by decide +kernel
theorem dX1_wishOf_29 : decode cX1_wishOf 29 = .ok (.checkcast 194, 3) := dk_192 0 194 (dk_at dksX1_wishOf_1 5 rfl rfl)
theorem dX1_wishOf_32 : decode cX1_wishOf 32 = .ok (.astore_n 3, 1) := dk_78 (dk_at dksX1_wishOf_1 8 rfl rfl)
theorem dX1_wishOf_33 : decode cX1_wishOf 33 = .ok (.iload_n 2, 1) := dk_28 (dk_at dksX1_wishOf_1 9 rfl rfl)
theorem dX1_wishOf_34 : decode cX1_wishOf 34 = .ok (.tableswitch 47 0 2 #[26, 33, 40], 26) := by decide +kernel
theorem dX1_wishOf_60 : decode cX1_wishOf 60 = .ok (.aload_n 3, 1) := dk_45 (dk_at dksX1_wishOf_3 0 rfl rfl)
theorem dX1_wishOf_61 : decode cX1_wishOf 61 = .ok (.invokevirtual 196, 3) := dk_182 0 196 (dk_at dksX1_wishOf_3 1 rfl rfl)
theorem dX1_wishOf_64 : decode cX1_wishOf 64 = .ok (.goto 25, 3) := dk_167 0 25 (dk_at dksX1_wishOf_3 4 rfl rfl)
theorem dX1_wishOf_67 : decode cX1_wishOf 67 = .ok (.aload_n 3, 1) := dk_45 (dk_at dksX1_wishOf_3 7 rfl rfl)
theorem dX1_wishOf_68 : decode cX1_wishOf 68 = .ok (.invokevirtual 197, 3) := dk_182 0 197 (dk_at dksX1_wishOf_3 8 rfl rfl)
theorem dX1_wishOf_71 : decode cX1_wishOf 71 = .ok (.goto 18, 3) := dk_167 0 18 (dk_at dksX1_wishOf_3 11 rfl rfl)
theorem dX1_wishOf_74 : decode cX1_wishOf 74 = .ok (.aload_n 3, 1) := dk_45 (dk_at dksX1_wishOf_3 14 rfl rfl)
theorem dX1_wishOf_75 : decode cX1_wishOf 75 = .ok (.invokevirtual 198, 3) := dk_182 0 198 (dk_at dksX1_wishOf_3 15 rfl rfl)
theorem dX1_wishOf_78 : decode cX1_wishOf 78 = .ok (.goto 11, 3) := dk_167 0 11 (dk_at dksX1_wishOf_3 18 rfl rfl)
theorem dX1_wishOf_81 : decode cX1_wishOf 81 = .ok (.new 49, 3) := dk_187 0 49 (dk_at dksX1_wishOf_3 21 rfl rfl)
theorem dX1_wishOf_84 : decode cX1_wishOf 84 = .ok (.dup, 1) := dk_89 (dk_at dksX1_wishOf_4 0 rfl rfl)
theorem dX1_wishOf_85 : decode cX1_wishOf 85 = .ok (.invokespecial 51, 3) := dk_183 0 51 (dk_at dksX1_wishOf_4 1 rfl rfl)
theorem dX1_wishOf_88 : decode cX1_wishOf 88 = .ok (.athrow, 1) := dk_191 (dk_at dksX1_wishOf_4 4 rfl rfl)
theorem dX1_wishOf_89 : decode cX1_wishOf 89 = .ok (.ireturn, 1) := dk_172 (dk_at dksX1_wishOf_4 5 rfl rfl)
abbrev cX1_over : ByteArray := prog_1_method_27_code
def yX1_over : MethodName := ⟨RX1, "over", "(I)I"⟩
def dkwX1_over_0 : List UInt8 := [27, 184, 0, 176, 42, 180, 0, 21, 27, 182, 0, 199, 172]
abbrev dktX1_over_0 : List UInt8 := dkwX1_over_0 ++ []
theorem dksX1_over_0 : cX1_over.data.toList.drop 0 = dktX1_over_0 := by decide +kernel
theorem dX1_over_0 : decode cX1_over 0 = .ok (.iload_n 1, 1) := dk_27 (dk_at dksX1_over_0 0 rfl rfl)
theorem dX1_over_1 : decode cX1_over 1 = .ok (.invokestatic 176, 3) := dk_184 0 176 (dk_at dksX1_over_0 1 rfl rfl)
theorem dX1_over_4 : decode cX1_over 4 = .ok (.aload_n 0, 1) := dk_42 (dk_at dksX1_over_0 4 rfl rfl)
theorem dX1_over_5 : decode cX1_over 5 = .ok (.getfield 21, 3) := dk_180 0 21 (dk_at dksX1_over_0 5 rfl rfl)
theorem dX1_over_8 : decode cX1_over 8 = .ok (.iload_n 1, 1) := dk_27 (dk_at dksX1_over_0 8 rfl rfl)
theorem dX1_over_9 : decode cX1_over 9 = .ok (.invokevirtual 199, 3) := dk_182 0 199 (dk_at dksX1_over_0 9 rfl rfl)
theorem dX1_over_12 : decode cX1_over 12 = .ok (.ireturn, 1) := dk_172 (dk_at dksX1_over_0 12 rfl rfl)
abbrev cX1_overAgain : ByteArray := prog_1_method_28_code
def yX1_overAgain : MethodName := ⟨RX1, "overAgain", "(I)I"⟩
def dkwX1_overAgain_0 : List UInt8 := [27, 184, 0, 176, 42, 180, 0, 21, 27, 182, 0, 203, 172]
abbrev dktX1_overAgain_0 : List UInt8 := dkwX1_overAgain_0 ++ []
theorem dksX1_overAgain_0 : cX1_overAgain.data.toList.drop 0 = dktX1_overAgain_0 := by decide +kernel
theorem dX1_overAgain_0 : decode cX1_overAgain 0 = .ok (.iload_n 1, 1) := dk_27 (dk_at dksX1_overAgain_0 0 rfl rfl)
theorem dX1_overAgain_1 : decode cX1_overAgain 1 = .ok (.invokestatic 176, 3) := dk_184 0 176 (dk_at dksX1_overAgain_0 1 rfl rfl)
theorem dX1_overAgain_4 : decode cX1_overAgain 4 = .ok (.aload_n 0, 1) := dk_42 (dk_at dksX1_overAgain_0 4 rfl rfl)
theorem dX1_overAgain_5 : decode cX1_overAgain 5 = .ok (.getfield 21, 3) := dk_180 0 21 (dk_at dksX1_overAgain_0 5 rfl rfl)
theorem dX1_overAgain_8 : decode cX1_overAgain 8 = .ok (.iload_n 1, 1) := dk_27 (dk_at dksX1_overAgain_0 8 rfl rfl)
theorem dX1_overAgain_9 : decode cX1_overAgain 9 = .ok (.invokevirtual 203, 3) := dk_182 0 203 (dk_at dksX1_overAgain_0 9 rfl rfl)
theorem dX1_overAgain_12 : decode cX1_overAgain 12 = .ok (.ireturn, 1) := dk_172 (dk_at dksX1_overAgain_0 12 rfl rfl)
abbrev cX1_busiest : ByteArray := prog_1_method_29_code
def yX1_busiest : MethodName := ⟨RX1, "busiest", "()I"⟩
def dkwX1_busiest_1 : List UInt8 := [180, 0, 21, 182, 0, 212, 172]
abbrev dktX1_busiest_1 : List UInt8 := dkwX1_busiest_1 ++ []
def dkwX1_busiest_0 : List UInt8 := [42, 180, 0, 21, 182, 0, 186, 185, 0, 206, 1, 0, 154, 0, 7, 4, 167, 0, 4, 3, 184, 0, 209, 42]
abbrev dktX1_busiest_0 : List UInt8 := dkwX1_busiest_0 ++ dktX1_busiest_1
theorem dksX1_busiest_0 : cX1_busiest.data.toList.drop 0 = dktX1_busiest_0 := by decide +kernel
theorem dksX1_busiest_1 : cX1_busiest.data.toList.drop 24 = dktX1_busiest_1 := dk_seg dksX1_busiest_0 24 rfl rfl
theorem dX1_busiest_0 : decode cX1_busiest 0 = .ok (.aload_n 0, 1) := dk_42 (dk_at dksX1_busiest_0 0 rfl rfl)
theorem dX1_busiest_1 : decode cX1_busiest 1 = .ok (.getfield 21, 3) := dk_180 0 21 (dk_at dksX1_busiest_0 1 rfl rfl)
theorem dX1_busiest_4 : decode cX1_busiest 4 = .ok (.invokevirtual 186, 3) := dk_182 0 186 (dk_at dksX1_busiest_0 4 rfl rfl)
theorem dX1_busiest_7 : decode cX1_busiest 7 = .ok (.invokeinterface 206 1, 5) := by decide +kernel
theorem dX1_busiest_12 : decode cX1_busiest 12 = .ok (.ifCond .ne 7, 3) := dk_154 0 7 (dk_at dksX1_busiest_0 12 rfl rfl)
theorem dX1_busiest_15 : decode cX1_busiest 15 = .ok (.iconst 1, 1) := dk_4 (dk_at dksX1_busiest_0 15 rfl rfl)
theorem dX1_busiest_16 : decode cX1_busiest 16 = .ok (.goto 4, 3) := dk_167 0 4 (dk_at dksX1_busiest_0 16 rfl rfl)
theorem dX1_busiest_19 : decode cX1_busiest 19 = .ok (.iconst 0, 1) := dk_3 (dk_at dksX1_busiest_0 19 rfl rfl)
theorem dX1_busiest_20 : decode cX1_busiest 20 = .ok (.invokestatic 209, 3) := dk_184 0 209 (dk_at dksX1_busiest_0 20 rfl rfl)
theorem dX1_busiest_23 : decode cX1_busiest 23 = .ok (.aload_n 0, 1) := dk_42 (dk_at dksX1_busiest_0 23 rfl rfl)
theorem dX1_busiest_24 : decode cX1_busiest 24 = .ok (.getfield 21, 3) := dk_180 0 21 (dk_at dksX1_busiest_1 0 rfl rfl)
theorem dX1_busiest_27 : decode cX1_busiest 27 = .ok (.invokevirtual 212, 3) := dk_182 0 212 (dk_at dksX1_busiest_1 3 rfl rfl)
theorem dX1_busiest_30 : decode cX1_busiest 30 = .ok (.ireturn, 1) := dk_172 (dk_at dksX1_busiest_1 6 rfl rfl)
abbrev cX1_requireElement : ByteArray := prog_1_method_8_code
def yX1_requireElement : MethodName := ⟨RX1, "requireElement", "(Z)V"⟩
def dkwX1_requireElement_0 : List UInt8 := [26, 154, 0, 11, 187, 0, 55, 89, 183, 0, 57, 191, 177]
abbrev dktX1_requireElement_0 : List UInt8 := dkwX1_requireElement_0 ++ []
theorem dksX1_requireElement_0 : cX1_requireElement.data.toList.drop 0 = dktX1_requireElement_0 := by decide +kernel
theorem dX1_requireElement_0 : decode cX1_requireElement 0 = .ok (.iload_n 0, 1) := dk_26 (dk_at dksX1_requireElement_0 0 rfl rfl)
theorem dX1_requireElement_1 : decode cX1_requireElement 1 = .ok (.ifCond .ne 11, 3) := dk_154 0 11 (dk_at dksX1_requireElement_0 1 rfl rfl)
theorem dX1_requireElement_4 : decode cX1_requireElement 4 = .ok (.new 55, 3) := dk_187 0 55 (dk_at dksX1_requireElement_0 4 rfl rfl)
theorem dX1_requireElement_7 : decode cX1_requireElement 7 = .ok (.dup, 1) := dk_89 (dk_at dksX1_requireElement_0 7 rfl rfl)
theorem dX1_requireElement_8 : decode cX1_requireElement 8 = .ok (.invokespecial 57, 3) := dk_183 0 57 (dk_at dksX1_requireElement_0 8 rfl rfl)
theorem dX1_requireElement_11 : decode cX1_requireElement 11 = .ok (.athrow, 1) := dk_191 (dk_at dksX1_requireElement_0 11 rfl rfl)
theorem dX1_requireElement_12 : decode cX1_requireElement 12 = .ok (.return_, 1) := dk_177 (dk_at dksX1_requireElement_0 12 rfl rfl)
abbrev cX1_allot : ByteArray := prog_1_method_32_code
def yX1_allot : MethodName := ⟨RX1, "allot", "()I"⟩
def dkwX1_allot_0 : List UInt8 := [42, 186, 0, 218, 0, 0, 182, 0, 123, 172]
abbrev dktX1_allot_0 : List UInt8 := dkwX1_allot_0 ++ []
theorem dksX1_allot_0 : cX1_allot.data.toList.drop 0 = dktX1_allot_0 := by decide +kernel
theorem dX1_allot_0 : decode cX1_allot 0 = .ok (.aload_n 0, 1) := dk_42 (dk_at dksX1_allot_0 0 rfl rfl)
theorem dX1_allot_1 : decode cX1_allot 1 = .ok (.invokedynamic 218, 5) := by decide +kernel
theorem dX1_allot_6 : decode cX1_allot 6 = .ok (.invokevirtual 123, 3) := dk_182 0 123 (dk_at dksX1_allot_0 6 rfl rfl)
theorem dX1_allot_9 : decode cX1_allot 9 = .ok (.ireturn, 1) := dk_172 (dk_at dksX1_allot_0 9 rfl rfl)
abbrev cX1_lambda_allot_8 : ByteArray := prog_1_method_60_code
def yX1_lambda_allot_8 : MethodName := ⟨RX1, "lambda$allot$8", "(LBoxSpans$Theatre;)I"⟩
theorem dX1_lambda_allot_8_0 : decode cX1_lambda_allot_8 0 = .ok (.aload_n 0, 1) := by decide +kernel
theorem dX1_lambda_allot_8_1 : decode cX1_lambda_allot_8 1 = .ok (.invokevirtual 402, 3) := by decide +kernel
theorem dX1_lambda_allot_8_4 : decode cX1_lambda_allot_8 4 = .ok (.ireturn, 1) := by decide +kernel
abbrev cX1_boxOf : ByteArray := prog_1_method_33_code
def yX1_boxOf : MethodName := ⟨RX1, "boxOf", "(II)I"⟩
def dkwX1_boxOf_5 : List UInt8 := [180, 0, 21, 27, 5, 182, 0, 224, 167, 0, 11, 187, 0, 49, 89, 183, 0, 51, 191, 172]
abbrev dktX1_boxOf_5 : List UInt8 := dkwX1_boxOf_5 ++ []
def dkwX1_boxOf_4 : List UInt8 := [182, 0, 236, 182, 0, 231, 167, 0, 37, 42, 180, 0, 21, 27, 182, 0, 236, 182, 0, 239, 167, 0, 23, 42]
abbrev dktX1_boxOf_4 : List UInt8 := dkwX1_boxOf_4 ++ dktX1_boxOf_5
def dkwX1_boxOf_3 : List UInt8 := [167, 0, 65, 42, 180, 0, 21, 27, 182, 0, 227, 182, 0, 231, 167, 0, 51, 42, 180, 0, 21, 27]
abbrev dktX1_boxOf_3 : List UInt8 := dkwX1_boxOf_3 ++ dktX1_boxOf_4
def dkwX1_boxOf_2 : List UInt8 := [42, 180, 0, 21, 27, 182, 0, 221, 167, 0, 79, 42, 180, 0, 21, 27, 28, 4, 100, 182, 0, 224]
abbrev dktX1_boxOf_2 : List UInt8 := dkwX1_boxOf_2 ++ dktX1_boxOf_3
def dkwX1_boxOf_1 : List UInt8 := [170, 0, 0, 0, 0, 121, 0, 0, 0, 0, 0, 0, 0, 6, 0, 0, 0, 42, 0, 0, 0, 53, 0, 0, 0, 53, 0, 0, 0, 67, 0, 0, 0, 81, 0, 0, 0, 95, 0, 0, 0, 109]
abbrev dktX1_boxOf_1 : List UInt8 := dkwX1_boxOf_1 ++ dktX1_boxOf_2
def dkwX1_boxOf_0 : List UInt8 := [42, 27, 182, 0, 127, 28]
abbrev dktX1_boxOf_0 : List UInt8 := dkwX1_boxOf_0 ++ dktX1_boxOf_1
theorem dksX1_boxOf_0 : cX1_boxOf.data.toList.drop 0 = dktX1_boxOf_0 := by decide +kernel
theorem dksX1_boxOf_1 : cX1_boxOf.data.toList.drop 6 = dktX1_boxOf_1 := dk_seg dksX1_boxOf_0 6 rfl rfl
theorem dksX1_boxOf_2 : cX1_boxOf.data.toList.drop 48 = dktX1_boxOf_2 := dk_seg dksX1_boxOf_1 42 rfl rfl
theorem dksX1_boxOf_3 : cX1_boxOf.data.toList.drop 70 = dktX1_boxOf_3 := dk_seg dksX1_boxOf_2 22 rfl rfl
theorem dksX1_boxOf_4 : cX1_boxOf.data.toList.drop 92 = dktX1_boxOf_4 := dk_seg dksX1_boxOf_3 22 rfl rfl
theorem dksX1_boxOf_5 : cX1_boxOf.data.toList.drop 116 = dktX1_boxOf_5 := dk_seg dksX1_boxOf_4 24 rfl rfl
theorem dX1_boxOf_0 : decode cX1_boxOf 0 = .ok (.aload_n 0, 1) := dk_42 (dk_at dksX1_boxOf_0 0 rfl rfl)
theorem dX1_boxOf_1 : decode cX1_boxOf 1 = .ok (.iload_n 1, 1) := dk_27 (dk_at dksX1_boxOf_0 1 rfl rfl)
theorem dX1_boxOf_2 : decode cX1_boxOf 2 = .ok (.invokevirtual 127, 3) := dk_182 0 127 (dk_at dksX1_boxOf_0 2 rfl rfl)
theorem dX1_boxOf_5 : decode cX1_boxOf 5 = .ok (.iload_n 2, 1) := dk_28 (dk_at dksX1_boxOf_0 5 rfl rfl)
theorem dX1_boxOf_6 : decode cX1_boxOf 6 = .ok (.tableswitch 121 0 6 #[42, 53, 53, 67, 81, 95, 109], 42) := by decide +kernel
theorem dX1_boxOf_48 : decode cX1_boxOf 48 = .ok (.aload_n 0, 1) := dk_42 (dk_at dksX1_boxOf_2 0 rfl rfl)
theorem dX1_boxOf_49 : decode cX1_boxOf 49 = .ok (.getfield 21, 3) := dk_180 0 21 (dk_at dksX1_boxOf_2 1 rfl rfl)
theorem dX1_boxOf_52 : decode cX1_boxOf 52 = .ok (.iload_n 1, 1) := dk_27 (dk_at dksX1_boxOf_2 4 rfl rfl)
theorem dX1_boxOf_53 : decode cX1_boxOf 53 = .ok (.invokevirtual 221, 3) := dk_182 0 221 (dk_at dksX1_boxOf_2 5 rfl rfl)
theorem dX1_boxOf_56 : decode cX1_boxOf 56 = .ok (.goto 79, 3) := dk_167 0 79 (dk_at dksX1_boxOf_2 8 rfl rfl)
theorem dX1_boxOf_59 : decode cX1_boxOf 59 = .ok (.aload_n 0, 1) := dk_42 (dk_at dksX1_boxOf_2 11 rfl rfl)
theorem dX1_boxOf_60 : decode cX1_boxOf 60 = .ok (.getfield 21, 3) := dk_180 0 21 (dk_at dksX1_boxOf_2 12 rfl rfl)
theorem dX1_boxOf_63 : decode cX1_boxOf 63 = .ok (.iload_n 1, 1) := dk_27 (dk_at dksX1_boxOf_2 15 rfl rfl)
theorem dX1_boxOf_64 : decode cX1_boxOf 64 = .ok (.iload_n 2, 1) := dk_28 (dk_at dksX1_boxOf_2 16 rfl rfl)
theorem dX1_boxOf_65 : decode cX1_boxOf 65 = .ok (.iconst 1, 1) := dk_4 (dk_at dksX1_boxOf_2 17 rfl rfl)
theorem dX1_boxOf_66 : decode cX1_boxOf 66 = .ok (.isub, 1) := dk_100 (dk_at dksX1_boxOf_2 18 rfl rfl)
theorem dX1_boxOf_67 : decode cX1_boxOf 67 = .ok (.invokevirtual 224, 3) := dk_182 0 224 (dk_at dksX1_boxOf_2 19 rfl rfl)
theorem dX1_boxOf_70 : decode cX1_boxOf 70 = .ok (.goto 65, 3) := dk_167 0 65 (dk_at dksX1_boxOf_3 0 rfl rfl)
theorem dX1_boxOf_73 : decode cX1_boxOf 73 = .ok (.aload_n 0, 1) := dk_42 (dk_at dksX1_boxOf_3 3 rfl rfl)
theorem dX1_boxOf_74 : decode cX1_boxOf 74 = .ok (.getfield 21, 3) := dk_180 0 21 (dk_at dksX1_boxOf_3 4 rfl rfl)
theorem dX1_boxOf_77 : decode cX1_boxOf 77 = .ok (.iload_n 1, 1) := dk_27 (dk_at dksX1_boxOf_3 7 rfl rfl)
theorem dX1_boxOf_78 : decode cX1_boxOf 78 = .ok (.invokevirtual 227, 3) := dk_182 0 227 (dk_at dksX1_boxOf_3 8 rfl rfl)
theorem dX1_boxOf_81 : decode cX1_boxOf 81 = .ok (.invokevirtual 231, 3) := dk_182 0 231 (dk_at dksX1_boxOf_3 11 rfl rfl)
theorem dX1_boxOf_84 : decode cX1_boxOf 84 = .ok (.goto 51, 3) := dk_167 0 51 (dk_at dksX1_boxOf_3 14 rfl rfl)
theorem dX1_boxOf_87 : decode cX1_boxOf 87 = .ok (.aload_n 0, 1) := dk_42 (dk_at dksX1_boxOf_3 17 rfl rfl)
theorem dX1_boxOf_88 : decode cX1_boxOf 88 = .ok (.getfield 21, 3) := dk_180 0 21 (dk_at dksX1_boxOf_3 18 rfl rfl)
theorem dX1_boxOf_91 : decode cX1_boxOf 91 = .ok (.iload_n 1, 1) := dk_27 (dk_at dksX1_boxOf_3 21 rfl rfl)
theorem dX1_boxOf_92 : decode cX1_boxOf 92 = .ok (.invokevirtual 236, 3) := dk_182 0 236 (dk_at dksX1_boxOf_4 0 rfl rfl)
theorem dX1_boxOf_95 : decode cX1_boxOf 95 = .ok (.invokevirtual 231, 3) := dk_182 0 231 (dk_at dksX1_boxOf_4 3 rfl rfl)
theorem dX1_boxOf_98 : decode cX1_boxOf 98 = .ok (.goto 37, 3) := dk_167 0 37 (dk_at dksX1_boxOf_4 6 rfl rfl)
theorem dX1_boxOf_101 : decode cX1_boxOf 101 = .ok (.aload_n 0, 1) := dk_42 (dk_at dksX1_boxOf_4 9 rfl rfl)
theorem dX1_boxOf_102 : decode cX1_boxOf 102 = .ok (.getfield 21, 3) := dk_180 0 21 (dk_at dksX1_boxOf_4 10 rfl rfl)
theorem dX1_boxOf_105 : decode cX1_boxOf 105 = .ok (.iload_n 1, 1) := dk_27 (dk_at dksX1_boxOf_4 13 rfl rfl)
theorem dX1_boxOf_106 : decode cX1_boxOf 106 = .ok (.invokevirtual 236, 3) := dk_182 0 236 (dk_at dksX1_boxOf_4 14 rfl rfl)
theorem dX1_boxOf_109 : decode cX1_boxOf 109 = .ok (.invokevirtual 239, 3) := dk_182 0 239 (dk_at dksX1_boxOf_4 17 rfl rfl)
theorem dX1_boxOf_112 : decode cX1_boxOf 112 = .ok (.goto 23, 3) := dk_167 0 23 (dk_at dksX1_boxOf_4 20 rfl rfl)
theorem dX1_boxOf_115 : decode cX1_boxOf 115 = .ok (.aload_n 0, 1) := dk_42 (dk_at dksX1_boxOf_4 23 rfl rfl)
theorem dX1_boxOf_116 : decode cX1_boxOf 116 = .ok (.getfield 21, 3) := dk_180 0 21 (dk_at dksX1_boxOf_5 0 rfl rfl)
theorem dX1_boxOf_119 : decode cX1_boxOf 119 = .ok (.iload_n 1, 1) := dk_27 (dk_at dksX1_boxOf_5 3 rfl rfl)
theorem dX1_boxOf_120 : decode cX1_boxOf 120 = .ok (.iconst 2, 1) := dk_5 (dk_at dksX1_boxOf_5 4 rfl rfl)
theorem dX1_boxOf_121 : decode cX1_boxOf 121 = .ok (.invokevirtual 224, 3) := dk_182 0 224 (dk_at dksX1_boxOf_5 5 rfl rfl)
theorem dX1_boxOf_124 : decode cX1_boxOf 124 = .ok (.goto 11, 3) := dk_167 0 11 (dk_at dksX1_boxOf_5 8 rfl rfl)
theorem dX1_boxOf_127 : decode cX1_boxOf 127 = .ok (.new 49, 3) := dk_187 0 49 (dk_at dksX1_boxOf_5 11 rfl rfl)
theorem dX1_boxOf_130 : decode cX1_boxOf 130 = .ok (.dup, 1) := dk_89 (dk_at dksX1_boxOf_5 14 rfl rfl)
theorem dX1_boxOf_131 : decode cX1_boxOf 131 = .ok (.invokespecial 51, 3) := dk_183 0 51 (dk_at dksX1_boxOf_5 15 rfl rfl)
theorem dX1_boxOf_134 : decode cX1_boxOf 134 = .ok (.athrow, 1) := dk_191 (dk_at dksX1_boxOf_5 18 rfl rfl)
theorem dX1_boxOf_135 : decode cX1_boxOf 135 = .ok (.ireturn, 1) := dk_172 (dk_at dksX1_boxOf_5 19 rfl rfl)
abbrev cX1_span : ByteArray := prog_1_method_35_code
def yX1_span : MethodName := ⟨RX1, "span", "(IIZ)I"⟩
def dkwX1_span_0 : List UInt8 := [42, 27, 182, 0, 127, 42, 180, 0, 21, 27, 182, 0, 227, 28, 29, 184, 0, 248, 172]
abbrev dktX1_span_0 : List UInt8 := dkwX1_span_0 ++ []
theorem dksX1_span_0 : cX1_span.data.toList.drop 0 = dktX1_span_0 := by decide +kernel
theorem dX1_span_0 : decode cX1_span 0 = .ok (.aload_n 0, 1) := dk_42 (dk_at dksX1_span_0 0 rfl rfl)
theorem dX1_span_1 : decode cX1_span 1 = .ok (.iload_n 1, 1) := dk_27 (dk_at dksX1_span_0 1 rfl rfl)
theorem dX1_span_2 : decode cX1_span 2 = .ok (.invokevirtual 127, 3) := dk_182 0 127 (dk_at dksX1_span_0 2 rfl rfl)
theorem dX1_span_5 : decode cX1_span 5 = .ok (.aload_n 0, 1) := dk_42 (dk_at dksX1_span_0 5 rfl rfl)
theorem dX1_span_6 : decode cX1_span 6 = .ok (.getfield 21, 3) := dk_180 0 21 (dk_at dksX1_span_0 6 rfl rfl)
theorem dX1_span_9 : decode cX1_span 9 = .ok (.iload_n 1, 1) := dk_27 (dk_at dksX1_span_0 9 rfl rfl)
theorem dX1_span_10 : decode cX1_span 10 = .ok (.invokevirtual 227, 3) := dk_182 0 227 (dk_at dksX1_span_0 10 rfl rfl)
theorem dX1_span_13 : decode cX1_span 13 = .ok (.iload_n 2, 1) := dk_28 (dk_at dksX1_span_0 13 rfl rfl)
theorem dX1_span_14 : decode cX1_span 14 = .ok (.iload_n 3, 1) := dk_29 (dk_at dksX1_span_0 14 rfl rfl)
theorem dX1_span_15 : decode cX1_span 15 = .ok (.invokestatic 248, 3) := dk_184 0 248 (dk_at dksX1_span_0 15 rfl rfl)
theorem dX1_span_18 : decode cX1_span 18 = .ok (.ireturn, 1) := dk_172 (dk_at dksX1_span_0 18 rfl rfl)
abbrev cX1_endOf : ByteArray := prog_1_method_34_code
def yX1_endOf : MethodName := ⟨RX1, "endOf", "(LBoxSpans$Runs;IZ)I"⟩
def dkwX1_endOf_0 : List UInt8 := [42, 27, 182, 0, 242, 78, 45, 198, 0, 7, 4, 167, 0, 4, 3, 184, 0, 209, 45, 28, 182, 0, 245, 172]
abbrev dktX1_endOf_0 : List UInt8 := dkwX1_endOf_0 ++ []
theorem dksX1_endOf_0 : cX1_endOf.data.toList.drop 0 = dktX1_endOf_0 := by decide +kernel
theorem dX1_endOf_0 : decode cX1_endOf 0 = .ok (.aload_n 0, 1) := dk_42 (dk_at dksX1_endOf_0 0 rfl rfl)
theorem dX1_endOf_1 : decode cX1_endOf 1 = .ok (.iload_n 1, 1) := dk_27 (dk_at dksX1_endOf_0 1 rfl rfl)
theorem dX1_endOf_2 : decode cX1_endOf 2 = .ok (.invokevirtual 242, 3) := dk_182 0 242 (dk_at dksX1_endOf_0 2 rfl rfl)
theorem dX1_endOf_5 : decode cX1_endOf 5 = .ok (.astore_n 3, 1) := dk_78 (dk_at dksX1_endOf_0 5 rfl rfl)
theorem dX1_endOf_6 : decode cX1_endOf 6 = .ok (.aload_n 3, 1) := dk_45 (dk_at dksX1_endOf_0 6 rfl rfl)
theorem dX1_endOf_7 : decode cX1_endOf 7 = .ok (.ifnull 7, 3) := dk_198 0 7 (dk_at dksX1_endOf_0 7 rfl rfl)
theorem dX1_endOf_10 : decode cX1_endOf 10 = .ok (.iconst 1, 1) := dk_4 (dk_at dksX1_endOf_0 10 rfl rfl)
theorem dX1_endOf_11 : decode cX1_endOf 11 = .ok (.goto 4, 3) := dk_167 0 4 (dk_at dksX1_endOf_0 11 rfl rfl)
theorem dX1_endOf_14 : decode cX1_endOf 14 = .ok (.iconst 0, 1) := dk_3 (dk_at dksX1_endOf_0 14 rfl rfl)
theorem dX1_endOf_15 : decode cX1_endOf 15 = .ok (.invokestatic 209, 3) := dk_184 0 209 (dk_at dksX1_endOf_0 15 rfl rfl)
theorem dX1_endOf_18 : decode cX1_endOf 18 = .ok (.aload_n 3, 1) := dk_45 (dk_at dksX1_endOf_0 18 rfl rfl)
theorem dX1_endOf_19 : decode cX1_endOf 19 = .ok (.iload_n 2, 1) := dk_28 (dk_at dksX1_endOf_0 19 rfl rfl)
theorem dX1_endOf_20 : decode cX1_endOf 20 = .ok (.invokevirtual 245, 3) := dk_182 0 245 (dk_at dksX1_endOf_0 20 rfl rfl)
theorem dX1_endOf_23 : decode cX1_endOf 23 = .ok (.ireturn, 1) := dk_172 (dk_at dksX1_endOf_0 23 rfl rfl)
abbrev cX1_gap : ByteArray := prog_1_method_36_code
def yX1_gap : MethodName := ⟨RX1, "gap", "(IIZ)I"⟩
def dkwX1_gap_0 : List UInt8 := [42, 27, 182, 0, 127, 42, 180, 0, 21, 27, 182, 0, 236, 28, 29, 184, 0, 248, 172]
abbrev dktX1_gap_0 : List UInt8 := dkwX1_gap_0 ++ []
theorem dksX1_gap_0 : cX1_gap.data.toList.drop 0 = dktX1_gap_0 := by decide +kernel
theorem dX1_gap_0 : decode cX1_gap 0 = .ok (.aload_n 0, 1) := dk_42 (dk_at dksX1_gap_0 0 rfl rfl)
theorem dX1_gap_1 : decode cX1_gap 1 = .ok (.iload_n 1, 1) := dk_27 (dk_at dksX1_gap_0 1 rfl rfl)
theorem dX1_gap_2 : decode cX1_gap 2 = .ok (.invokevirtual 127, 3) := dk_182 0 127 (dk_at dksX1_gap_0 2 rfl rfl)
theorem dX1_gap_5 : decode cX1_gap 5 = .ok (.aload_n 0, 1) := dk_42 (dk_at dksX1_gap_0 5 rfl rfl)
theorem dX1_gap_6 : decode cX1_gap 6 = .ok (.getfield 21, 3) := dk_180 0 21 (dk_at dksX1_gap_0 6 rfl rfl)
theorem dX1_gap_9 : decode cX1_gap 9 = .ok (.iload_n 1, 1) := dk_27 (dk_at dksX1_gap_0 9 rfl rfl)
theorem dX1_gap_10 : decode cX1_gap 10 = .ok (.invokevirtual 236, 3) := dk_182 0 236 (dk_at dksX1_gap_0 10 rfl rfl)
theorem dX1_gap_13 : decode cX1_gap 13 = .ok (.iload_n 2, 1) := dk_28 (dk_at dksX1_gap_0 13 rfl rfl)
theorem dX1_gap_14 : decode cX1_gap 14 = .ok (.iload_n 3, 1) := dk_29 (dk_at dksX1_gap_0 14 rfl rfl)
theorem dX1_gap_15 : decode cX1_gap 15 = .ok (.invokestatic 248, 3) := dk_184 0 248 (dk_at dksX1_gap_0 15 rfl rfl)
theorem dX1_gap_18 : decode cX1_gap 18 = .ok (.ireturn, 1) := dk_172 (dk_at dksX1_gap_0 18 rfl rfl)
abbrev cX1_fits : ByteArray := prog_1_method_37_code
def yX1_fits : MethodName := ⟨RX1, "fits", "(II)I"⟩
def dkwX1_fits_1 : List UInt8 := [28, 182, 0, 252, 78, 45, 198, 0, 7, 4, 167, 0, 4, 3, 184, 0, 209, 45, 182, 0, 255, 172]
abbrev dktX1_fits_1 : List UInt8 := dkwX1_fits_1 ++ []
def dkwX1_fits_0 : List UInt8 := [42, 27, 182, 0, 127, 28, 4, 17, 2, 88, 184, 0, 9, 184, 0, 86, 42, 180, 0, 21, 27, 182, 0, 236]
abbrev dktX1_fits_0 : List UInt8 := dkwX1_fits_0 ++ dktX1_fits_1
theorem dksX1_fits_0 : cX1_fits.data.toList.drop 0 = dktX1_fits_0 := by decide +kernel
theorem dksX1_fits_1 : cX1_fits.data.toList.drop 24 = dktX1_fits_1 := dk_seg dksX1_fits_0 24 rfl rfl
theorem dX1_fits_0 : decode cX1_fits 0 = .ok (.aload_n 0, 1) := dk_42 (dk_at dksX1_fits_0 0 rfl rfl)
theorem dX1_fits_1 : decode cX1_fits 1 = .ok (.iload_n 1, 1) := dk_27 (dk_at dksX1_fits_0 1 rfl rfl)
theorem dX1_fits_2 : decode cX1_fits 2 = .ok (.invokevirtual 127, 3) := dk_182 0 127 (dk_at dksX1_fits_0 2 rfl rfl)
theorem dX1_fits_5 : decode cX1_fits 5 = .ok (.iload_n 2, 1) := dk_28 (dk_at dksX1_fits_0 5 rfl rfl)
theorem dX1_fits_6 : decode cX1_fits 6 = .ok (.iconst 1, 1) := dk_4 (dk_at dksX1_fits_0 6 rfl rfl)
theorem dX1_fits_7 : decode cX1_fits 7 = .ok (.sipush 600, 3) := dk_17 2 88 (dk_at dksX1_fits_0 7 rfl rfl)
theorem dX1_fits_10 : decode cX1_fits 10 = .ok (.invokestatic 9, 3) := dk_184 0 9 (dk_at dksX1_fits_0 10 rfl rfl)
theorem dX1_fits_13 : decode cX1_fits 13 = .ok (.invokestatic 86, 3) := dk_184 0 86 (dk_at dksX1_fits_0 13 rfl rfl)
theorem dX1_fits_16 : decode cX1_fits 16 = .ok (.aload_n 0, 1) := dk_42 (dk_at dksX1_fits_0 16 rfl rfl)
theorem dX1_fits_17 : decode cX1_fits 17 = .ok (.getfield 21, 3) := dk_180 0 21 (dk_at dksX1_fits_0 17 rfl rfl)
theorem dX1_fits_20 : decode cX1_fits 20 = .ok (.iload_n 1, 1) := dk_27 (dk_at dksX1_fits_0 20 rfl rfl)
theorem dX1_fits_21 : decode cX1_fits 21 = .ok (.invokevirtual 236, 3) := dk_182 0 236 (dk_at dksX1_fits_0 21 rfl rfl)
theorem dX1_fits_24 : decode cX1_fits 24 = .ok (.iload_n 2, 1) := dk_28 (dk_at dksX1_fits_1 0 rfl rfl)
theorem dX1_fits_25 : decode cX1_fits 25 = .ok (.invokevirtual 252, 3) := dk_182 0 252 (dk_at dksX1_fits_1 1 rfl rfl)
theorem dX1_fits_28 : decode cX1_fits 28 = .ok (.astore_n 3, 1) := dk_78 (dk_at dksX1_fits_1 4 rfl rfl)
theorem dX1_fits_29 : decode cX1_fits 29 = .ok (.aload_n 3, 1) := dk_45 (dk_at dksX1_fits_1 5 rfl rfl)
theorem dX1_fits_30 : decode cX1_fits 30 = .ok (.ifnull 7, 3) := dk_198 0 7 (dk_at dksX1_fits_1 6 rfl rfl)
theorem dX1_fits_33 : decode cX1_fits 33 = .ok (.iconst 1, 1) := dk_4 (dk_at dksX1_fits_1 9 rfl rfl)
theorem dX1_fits_34 : decode cX1_fits 34 = .ok (.goto 4, 3) := dk_167 0 4 (dk_at dksX1_fits_1 10 rfl rfl)
theorem dX1_fits_37 : decode cX1_fits 37 = .ok (.iconst 0, 1) := dk_3 (dk_at dksX1_fits_1 13 rfl rfl)
theorem dX1_fits_38 : decode cX1_fits 38 = .ok (.invokestatic 209, 3) := dk_184 0 209 (dk_at dksX1_fits_1 14 rfl rfl)
theorem dX1_fits_41 : decode cX1_fits 41 = .ok (.aload_n 3, 1) := dk_45 (dk_at dksX1_fits_1 17 rfl rfl)
theorem dX1_fits_42 : decode cX1_fits 42 = .ok (.invokevirtual 255, 3) := dk_182 0 255 (dk_at dksX1_fits_1 18 rfl rfl)
theorem dX1_fits_45 : decode cX1_fits 45 = .ok (.ireturn, 1) := dk_172 (dk_at dksX1_fits_1 21 rfl rfl)
abbrev cX1_roomFor : ByteArray := prog_1_method_38_code
def yX1_roomFor : MethodName := ⟨RX1, "roomFor", "(III)I"⟩
def dkwX1_roomFor_1 : List UInt8 := [54, 4, 21, 4, 2, 159, 0, 7, 4, 167, 0, 4, 3, 184, 0, 209, 21, 4, 172]
abbrev dktX1_roomFor_1 : List UInt8 := dkwX1_roomFor_1 ++ []
def dkwX1_roomFor_0 : List UInt8 := [27, 28, 29, 184, 0, 131, 42, 180, 0, 21, 27, 187, 0, 135, 89, 28, 29, 183, 0, 137, 182, 1, 0]
abbrev dktX1_roomFor_0 : List UInt8 := dkwX1_roomFor_0 ++ dktX1_roomFor_1
theorem dksX1_roomFor_0 : cX1_roomFor.data.toList.drop 0 = dktX1_roomFor_0 := by decide +kernel
theorem dksX1_roomFor_1 : cX1_roomFor.data.toList.drop 23 = dktX1_roomFor_1 := dk_seg dksX1_roomFor_0 23 rfl rfl
theorem dX1_roomFor_0 : decode cX1_roomFor 0 = .ok (.iload_n 1, 1) := dk_27 (dk_at dksX1_roomFor_0 0 rfl rfl)
theorem dX1_roomFor_1 : decode cX1_roomFor 1 = .ok (.iload_n 2, 1) := dk_28 (dk_at dksX1_roomFor_0 1 rfl rfl)
theorem dX1_roomFor_2 : decode cX1_roomFor 2 = .ok (.iload_n 3, 1) := dk_29 (dk_at dksX1_roomFor_0 2 rfl rfl)
theorem dX1_roomFor_3 : decode cX1_roomFor 3 = .ok (.invokestatic 131, 3) := dk_184 0 131 (dk_at dksX1_roomFor_0 3 rfl rfl)
theorem dX1_roomFor_6 : decode cX1_roomFor 6 = .ok (.aload_n 0, 1) := dk_42 (dk_at dksX1_roomFor_0 6 rfl rfl)
theorem dX1_roomFor_7 : decode cX1_roomFor 7 = .ok (.getfield 21, 3) := dk_180 0 21 (dk_at dksX1_roomFor_0 7 rfl rfl)
theorem dX1_roomFor_10 : decode cX1_roomFor 10 = .ok (.iload_n 1, 1) := dk_27 (dk_at dksX1_roomFor_0 10 rfl rfl)
theorem dX1_roomFor_11 : decode cX1_roomFor 11 = .ok (.new 135, 3) := dk_187 0 135 (dk_at dksX1_roomFor_0 11 rfl rfl)
theorem dX1_roomFor_14 : decode cX1_roomFor 14 = .ok (.dup, 1) := dk_89 (dk_at dksX1_roomFor_0 14 rfl rfl)
theorem dX1_roomFor_15 : decode cX1_roomFor 15 = .ok (.iload_n 2, 1) := dk_28 (dk_at dksX1_roomFor_0 15 rfl rfl)
theorem dX1_roomFor_16 : decode cX1_roomFor 16 = .ok (.iload_n 3, 1) := dk_29 (dk_at dksX1_roomFor_0 16 rfl rfl)
theorem dX1_roomFor_17 : decode cX1_roomFor 17 = .ok (.invokespecial 137, 3) := dk_183 0 137 (dk_at dksX1_roomFor_0 17 rfl rfl)
theorem dX1_roomFor_20 : decode cX1_roomFor 20 = .ok (.invokevirtual 256, 3) := dk_182 1 0 (dk_at dksX1_roomFor_0 20 rfl rfl)
theorem dX1_roomFor_23 : decode cX1_roomFor 23 = .ok (.istore 4, 2) := dk_54 4 (dk_at dksX1_roomFor_1 0 rfl rfl)
theorem dX1_roomFor_25 : decode cX1_roomFor 25 = .ok (.iload 4, 2) := dk_21 4 (dk_at dksX1_roomFor_1 2 rfl rfl)
theorem dX1_roomFor_27 : decode cX1_roomFor 27 = .ok (.iconst (-1), 1) := dk_2 (dk_at dksX1_roomFor_1 4 rfl rfl)
theorem dX1_roomFor_28 : decode cX1_roomFor 28 = .ok (.if_icmp .eq 7, 3) := dk_159 0 7 (dk_at dksX1_roomFor_1 5 rfl rfl)
theorem dX1_roomFor_31 : decode cX1_roomFor 31 = .ok (.iconst 1, 1) := dk_4 (dk_at dksX1_roomFor_1 8 rfl rfl)
theorem dX1_roomFor_32 : decode cX1_roomFor 32 = .ok (.goto 4, 3) := dk_167 0 4 (dk_at dksX1_roomFor_1 9 rfl rfl)
theorem dX1_roomFor_35 : decode cX1_roomFor 35 = .ok (.iconst 0, 1) := dk_3 (dk_at dksX1_roomFor_1 12 rfl rfl)
theorem dX1_roomFor_36 : decode cX1_roomFor 36 = .ok (.invokestatic 209, 3) := dk_184 0 209 (dk_at dksX1_roomFor_1 13 rfl rfl)
theorem dX1_roomFor_39 : decode cX1_roomFor 39 = .ok (.iload 4, 2) := dk_21 4 (dk_at dksX1_roomFor_1 16 rfl rfl)
theorem dX1_roomFor_41 : decode cX1_roomFor 41 = .ok (.ireturn, 1) := dk_172 (dk_at dksX1_roomFor_1 18 rfl rfl)
abbrev cX1_hour : ByteArray := prog_1_method_40_code
def yX1_hour : MethodName := ⟨RX1, "hour", "(II)I"⟩
def dkwX1_hour_1 : List UInt8 := [45, 186, 1, 14, 0, 0, 16, 60, 28, 104, 16, 60, 184, 1, 17, 172]
abbrev dktX1_hour_1 : List UInt8 := dkwX1_hour_1 ++ []
def dkwX1_hour_0 : List UInt8 := [42, 27, 182, 0, 127, 28, 3, 16, 9, 184, 0, 9, 184, 0, 86, 42, 180, 0, 21, 27, 182, 1, 10, 78]
abbrev dktX1_hour_0 : List UInt8 := dkwX1_hour_0 ++ dktX1_hour_1
theorem dksX1_hour_0 : cX1_hour.data.toList.drop 0 = dktX1_hour_0 := by decide +kernel
theorem dksX1_hour_1 : cX1_hour.data.toList.drop 24 = dktX1_hour_1 := dk_seg dksX1_hour_0 24 rfl rfl
theorem dX1_hour_0 : decode cX1_hour 0 = .ok (.aload_n 0, 1) := dk_42 (dk_at dksX1_hour_0 0 rfl rfl)
theorem dX1_hour_1 : decode cX1_hour 1 = .ok (.iload_n 1, 1) := dk_27 (dk_at dksX1_hour_0 1 rfl rfl)
theorem dX1_hour_2 : decode cX1_hour 2 = .ok (.invokevirtual 127, 3) := dk_182 0 127 (dk_at dksX1_hour_0 2 rfl rfl)
theorem dX1_hour_5 : decode cX1_hour 5 = .ok (.iload_n 2, 1) := dk_28 (dk_at dksX1_hour_0 5 rfl rfl)
theorem dX1_hour_6 : decode cX1_hour 6 = .ok (.iconst 0, 1) := dk_3 (dk_at dksX1_hour_0 6 rfl rfl)
theorem dX1_hour_7 : decode cX1_hour 7 = .ok (.bipush 9, 2) := dk_16 9 (dk_at dksX1_hour_0 7 rfl rfl)
theorem dX1_hour_9 : decode cX1_hour 9 = .ok (.invokestatic 9, 3) := dk_184 0 9 (dk_at dksX1_hour_0 9 rfl rfl)
theorem dX1_hour_12 : decode cX1_hour 12 = .ok (.invokestatic 86, 3) := dk_184 0 86 (dk_at dksX1_hour_0 12 rfl rfl)
theorem dX1_hour_15 : decode cX1_hour 15 = .ok (.aload_n 0, 1) := dk_42 (dk_at dksX1_hour_0 15 rfl rfl)
theorem dX1_hour_16 : decode cX1_hour 16 = .ok (.getfield 21, 3) := dk_180 0 21 (dk_at dksX1_hour_0 16 rfl rfl)
theorem dX1_hour_19 : decode cX1_hour 19 = .ok (.iload_n 1, 1) := dk_27 (dk_at dksX1_hour_0 19 rfl rfl)
theorem dX1_hour_20 : decode cX1_hour 20 = .ok (.invokevirtual 266, 3) := dk_182 1 10 (dk_at dksX1_hour_0 20 rfl rfl)
theorem dX1_hour_23 : decode cX1_hour 23 = .ok (.astore_n 3, 1) := dk_78 (dk_at dksX1_hour_0 23 rfl rfl)
theorem dX1_hour_24 : decode cX1_hour 24 = .ok (.aload_n 3, 1) := dk_45 (dk_at dksX1_hour_1 0 rfl rfl)
theorem dX1_hour_25 : decode cX1_hour 25 = .ok (.invokedynamic 270, 5) := by decide +kernel
theorem dX1_hour_30 : decode cX1_hour 30 = .ok (.bipush 60, 2) := dk_16 60 (dk_at dksX1_hour_1 6 rfl rfl)
theorem dX1_hour_32 : decode cX1_hour 32 = .ok (.iload_n 2, 1) := dk_28 (dk_at dksX1_hour_1 8 rfl rfl)
theorem dX1_hour_33 : decode cX1_hour 33 = .ok (.imul, 1) := dk_104 (dk_at dksX1_hour_1 9 rfl rfl)
theorem dX1_hour_34 : decode cX1_hour 34 = .ok (.bipush 60, 2) := dk_16 60 (dk_at dksX1_hour_1 10 rfl rfl)
theorem dX1_hour_36 : decode cX1_hour 36 = .ok (.invokestatic 273, 3) := dk_184 1 17 (dk_at dksX1_hour_1 12 rfl rfl)
theorem dX1_hour_39 : decode cX1_hour 39 = .ok (.ireturn, 1) := dk_172 (dk_at dksX1_hour_1 15 rfl rfl)
abbrev cX1_lambda_hour_9 : ByteArray := prog_1_method_59_code
def yX1_lambda_hour_9 : MethodName := ⟨RX1, "lambda$hour$9", "([ZI)Z"⟩
def dkwX1_lambda_hour_9_0 : List UInt8 := [42, 27, 51, 172]
abbrev dktX1_lambda_hour_9_0 : List UInt8 := dkwX1_lambda_hour_9_0 ++ []
theorem dksX1_lambda_hour_9_0 : cX1_lambda_hour_9.data.toList.drop 0 = dktX1_lambda_hour_9_0 := by decide +kernel
theorem dX1_lambda_hour_9_0 : decode cX1_lambda_hour_9 0 = .ok (.aload_n 0, 1) := dk_42 (dk_at dksX1_lambda_hour_9_0 0 rfl rfl)
theorem dX1_lambda_hour_9_1 : decode cX1_lambda_hour_9 1 = .ok (.iload_n 1, 1) := dk_27 (dk_at dksX1_lambda_hour_9_0 1 rfl rfl)
theorem dX1_lambda_hour_9_2 : decode cX1_lambda_hour_9 2 = .ok (.baload, 1) := dk_51 (dk_at dksX1_lambda_hour_9_0 2 rfl rfl)
theorem dX1_lambda_hour_9_3 : decode cX1_lambda_hour_9 3 = .ok (.ireturn, 1) := dk_172 (dk_at dksX1_lambda_hour_9_0 3 rfl rfl)
abbrev cX1_counted : ByteArray := prog_1_method_39_code
def yX1_counted : MethodName := ⟨RX1, "counted", "(LBoxSpans$Question;II)I"⟩
def dkwX1_counted_1 : List UInt8 := [153, 0, 7, 4, 167, 0, 4, 3, 96, 62, 132, 4, 1, 167, 255, 226, 29, 172]
abbrev dktX1_counted_1 : List UInt8 := dkwX1_counted_1 ++ []
def dkwX1_counted_0 : List UInt8 := [3, 62, 27, 54, 4, 21, 4, 27, 28, 96, 162, 0, 28, 29, 42, 21, 4, 185, 1, 4, 2, 0]
abbrev dktX1_counted_0 : List UInt8 := dkwX1_counted_0 ++ dktX1_counted_1
theorem dksX1_counted_0 : cX1_counted.data.toList.drop 0 = dktX1_counted_0 := by decide +kernel
theorem dksX1_counted_1 : cX1_counted.data.toList.drop 22 = dktX1_counted_1 := dk_seg dksX1_counted_0 22 rfl rfl
theorem dX1_counted_0 : decode cX1_counted 0 = .ok (.iconst 0, 1) := dk_3 (dk_at dksX1_counted_0 0 rfl rfl)
theorem dX1_counted_1 : decode cX1_counted 1 = .ok (.istore_n 3, 1) := dk_62 (dk_at dksX1_counted_0 1 rfl rfl)
theorem dX1_counted_2 : decode cX1_counted 2 = .ok (.iload_n 1, 1) := dk_27 (dk_at dksX1_counted_0 2 rfl rfl)
theorem dX1_counted_3 : decode cX1_counted 3 = .ok (.istore 4, 2) := dk_54 4 (dk_at dksX1_counted_0 3 rfl rfl)
theorem dX1_counted_5 : decode cX1_counted 5 = .ok (.iload 4, 2) := dk_21 4 (dk_at dksX1_counted_0 5 rfl rfl)
theorem dX1_counted_7 : decode cX1_counted 7 = .ok (.iload_n 1, 1) := dk_27 (dk_at dksX1_counted_0 7 rfl rfl)
theorem dX1_counted_8 : decode cX1_counted 8 = .ok (.iload_n 2, 1) := dk_28 (dk_at dksX1_counted_0 8 rfl rfl)
theorem dX1_counted_9 : decode cX1_counted 9 = .ok (.iadd, 1) := dk_96 (dk_at dksX1_counted_0 9 rfl rfl)
theorem dX1_counted_10 : decode cX1_counted 10 = .ok (.if_icmp .ge 28, 3) := dk_162 0 28 (dk_at dksX1_counted_0 10 rfl rfl)
theorem dX1_counted_13 : decode cX1_counted 13 = .ok (.iload_n 3, 1) := dk_29 (dk_at dksX1_counted_0 13 rfl rfl)
theorem dX1_counted_14 : decode cX1_counted 14 = .ok (.aload_n 0, 1) := dk_42 (dk_at dksX1_counted_0 14 rfl rfl)
theorem dX1_counted_15 : decode cX1_counted 15 = .ok (.iload 4, 2) := dk_21 4 (dk_at dksX1_counted_0 15 rfl rfl)
theorem dX1_counted_17 : decode cX1_counted 17 = .ok (.invokeinterface 260 2, 5) := by decide +kernel
theorem dX1_counted_22 : decode cX1_counted 22 = .ok (.ifCond .eq 7, 3) := dk_153 0 7 (dk_at dksX1_counted_1 0 rfl rfl)
theorem dX1_counted_25 : decode cX1_counted 25 = .ok (.iconst 1, 1) := dk_4 (dk_at dksX1_counted_1 3 rfl rfl)
theorem dX1_counted_26 : decode cX1_counted 26 = .ok (.goto 4, 3) := dk_167 0 4 (dk_at dksX1_counted_1 4 rfl rfl)
theorem dX1_counted_29 : decode cX1_counted 29 = .ok (.iconst 0, 1) := dk_3 (dk_at dksX1_counted_1 7 rfl rfl)
theorem dX1_counted_30 : decode cX1_counted 30 = .ok (.iadd, 1) := dk_96 (dk_at dksX1_counted_1 8 rfl rfl)
theorem dX1_counted_31 : decode cX1_counted 31 = .ok (.istore_n 3, 1) := dk_62 (dk_at dksX1_counted_1 9 rfl rfl)
theorem dX1_counted_32 : decode cX1_counted 32 = .ok (.iinc 4 1, 3) := dk_132 4 1 (dk_at dksX1_counted_1 10 rfl rfl)
theorem dX1_counted_35 : decode cX1_counted 35 = .ok (.goto (-30), 3) := dk_167 255 226 (dk_at dksX1_counted_1 13 rfl rfl)
theorem dX1_counted_38 : decode cX1_counted 38 = .ok (.iload_n 3, 1) := dk_29 (dk_at dksX1_counted_1 16 rfl rfl)
theorem dX1_counted_39 : decode cX1_counted 39 = .ok (.ireturn, 1) := dk_172 (dk_at dksX1_counted_1 17 rfl rfl)
abbrev cX1_ranked : ByteArray := prog_1_method_41_code
def yX1_ranked : MethodName := ⟨RX1, "ranked", "(I)I"⟩
def dkwX1_ranked_1 : List UInt8 := [44, 27, 185, 0, 190, 2, 0, 192, 1, 24, 182, 1, 26, 172]
abbrev dktX1_ranked_1 : List UInt8 := dkwX1_ranked_1 ++ []
def dkwX1_ranked_0 : List UInt8 := [42, 180, 0, 21, 182, 1, 21, 77, 27, 3, 44, 185, 0, 73, 1, 0, 4, 100, 184, 0, 9, 184, 0, 209]
abbrev dktX1_ranked_0 : List UInt8 := dkwX1_ranked_0 ++ dktX1_ranked_1
theorem dksX1_ranked_0 : cX1_ranked.data.toList.drop 0 = dktX1_ranked_0 := by decide +kernel
theorem dksX1_ranked_1 : cX1_ranked.data.toList.drop 24 = dktX1_ranked_1 := dk_seg dksX1_ranked_0 24 rfl rfl
theorem dX1_ranked_0 : decode cX1_ranked 0 = .ok (.aload_n 0, 1) := dk_42 (dk_at dksX1_ranked_0 0 rfl rfl)
theorem dX1_ranked_1 : decode cX1_ranked 1 = .ok (.getfield 21, 3) := dk_180 0 21 (dk_at dksX1_ranked_0 1 rfl rfl)
theorem dX1_ranked_4 : decode cX1_ranked 4 = .ok (.invokevirtual 277, 3) := dk_182 1 21 (dk_at dksX1_ranked_0 4 rfl rfl)
theorem dX1_ranked_7 : decode cX1_ranked 7 = .ok (.astore_n 2, 1) := dk_77 (dk_at dksX1_ranked_0 7 rfl rfl)
theorem dX1_ranked_8 : decode cX1_ranked 8 = .ok (.iload_n 1, 1) := dk_27 (dk_at dksX1_ranked_0 8 rfl rfl)
theorem dX1_ranked_9 : decode cX1_ranked 9 = .ok (.iconst 0, 1) := dk_3 (dk_at dksX1_ranked_0 9 rfl rfl)
theorem dX1_ranked_10 : decode cX1_ranked 10 = .ok (.aload_n 2, 1) := dk_44 (dk_at dksX1_ranked_0 10 rfl rfl)
theorem dX1_ranked_11 : decode cX1_ranked 11 = .ok (.invokeinterface 73 1, 5) := by decide +kernel
theorem dX1_ranked_16 : decode cX1_ranked 16 = .ok (.iconst 1, 1) := dk_4 (dk_at dksX1_ranked_0 16 rfl rfl)
theorem dX1_ranked_17 : decode cX1_ranked 17 = .ok (.isub, 1) := dk_100 (dk_at dksX1_ranked_0 17 rfl rfl)
theorem dX1_ranked_18 : decode cX1_ranked 18 = .ok (.invokestatic 9, 3) := dk_184 0 9 (dk_at dksX1_ranked_0 18 rfl rfl)
theorem dX1_ranked_21 : decode cX1_ranked 21 = .ok (.invokestatic 209, 3) := dk_184 0 209 (dk_at dksX1_ranked_0 21 rfl rfl)
theorem dX1_ranked_24 : decode cX1_ranked 24 = .ok (.aload_n 2, 1) := dk_44 (dk_at dksX1_ranked_1 0 rfl rfl)
theorem dX1_ranked_25 : decode cX1_ranked 25 = .ok (.iload_n 1, 1) := dk_27 (dk_at dksX1_ranked_1 1 rfl rfl)
theorem dX1_ranked_26 : decode cX1_ranked 26 = .ok (.invokeinterface 190 2, 5) := by decide +kernel
theorem dX1_ranked_31 : decode cX1_ranked 31 = .ok (.checkcast 280, 3) := dk_192 1 24 (dk_at dksX1_ranked_1 7 rfl rfl)
theorem dX1_ranked_34 : decode cX1_ranked 34 = .ok (.invokevirtual 282, 3) := dk_182 1 26 (dk_at dksX1_ranked_1 10 rfl rfl)
theorem dX1_ranked_37 : decode cX1_ranked 37 = .ok (.ireturn, 1) := dk_172 (dk_at dksX1_ranked_1 13 rfl rfl)
abbrev cX1_type : ByteArray := prog_1_method_42_code
def yX1_type : MethodName := ⟨RX1, "type", "(C)I"⟩
def dkwX1_type_1 : List UInt8 := [27, 182, 1, 35, 87, 42, 180, 0, 35, 182, 1, 29, 172]
abbrev dktX1_type_1 : List UInt8 := dkwX1_type_1 ++ []
def dkwX1_type_0 : List UInt8 := [42, 180, 0, 35, 182, 1, 29, 16, 60, 162, 0, 7, 4, 167, 0, 4, 3, 184, 1, 32, 42, 180, 0, 35]
abbrev dktX1_type_0 : List UInt8 := dkwX1_type_0 ++ dktX1_type_1
theorem dksX1_type_0 : cX1_type.data.toList.drop 0 = dktX1_type_0 := by decide +kernel
theorem dksX1_type_1 : cX1_type.data.toList.drop 24 = dktX1_type_1 := dk_seg dksX1_type_0 24 rfl rfl
theorem dX1_type_0 : decode cX1_type 0 = .ok (.aload_n 0, 1) := dk_42 (dk_at dksX1_type_0 0 rfl rfl)
theorem dX1_type_1 : decode cX1_type 1 = .ok (.getfield 35, 3) := dk_180 0 35 (dk_at dksX1_type_0 1 rfl rfl)
theorem dX1_type_4 : decode cX1_type 4 = .ok (.invokevirtual 285, 3) := dk_182 1 29 (dk_at dksX1_type_0 4 rfl rfl)
theorem dX1_type_7 : decode cX1_type 7 = .ok (.bipush 60, 2) := dk_16 60 (dk_at dksX1_type_0 7 rfl rfl)
theorem dX1_type_9 : decode cX1_type 9 = .ok (.if_icmp .ge 7, 3) := dk_162 0 7 (dk_at dksX1_type_0 9 rfl rfl)
theorem dX1_type_12 : decode cX1_type 12 = .ok (.iconst 1, 1) := dk_4 (dk_at dksX1_type_0 12 rfl rfl)
theorem dX1_type_13 : decode cX1_type 13 = .ok (.goto 4, 3) := dk_167 0 4 (dk_at dksX1_type_0 13 rfl rfl)
theorem dX1_type_16 : decode cX1_type 16 = .ok (.iconst 0, 1) := dk_3 (dk_at dksX1_type_0 16 rfl rfl)
theorem dX1_type_17 : decode cX1_type 17 = .ok (.invokestatic 288, 3) := dk_184 1 32 (dk_at dksX1_type_0 17 rfl rfl)
theorem dX1_type_20 : decode cX1_type 20 = .ok (.aload_n 0, 1) := dk_42 (dk_at dksX1_type_0 20 rfl rfl)
theorem dX1_type_21 : decode cX1_type 21 = .ok (.getfield 35, 3) := dk_180 0 35 (dk_at dksX1_type_0 21 rfl rfl)
theorem dX1_type_24 : decode cX1_type 24 = .ok (.iload_n 1, 1) := dk_27 (dk_at dksX1_type_1 0 rfl rfl)
theorem dX1_type_25 : decode cX1_type 25 = .ok (.invokevirtual 291, 3) := dk_182 1 35 (dk_at dksX1_type_1 1 rfl rfl)
theorem dX1_type_28 : decode cX1_type 28 = .ok (.pop, 1) := dk_87 (dk_at dksX1_type_1 4 rfl rfl)
theorem dX1_type_29 : decode cX1_type 29 = .ok (.aload_n 0, 1) := dk_42 (dk_at dksX1_type_1 5 rfl rfl)
theorem dX1_type_30 : decode cX1_type 30 = .ok (.getfield 35, 3) := dk_180 0 35 (dk_at dksX1_type_1 6 rfl rfl)
theorem dX1_type_33 : decode cX1_type 33 = .ok (.invokevirtual 285, 3) := dk_182 1 29 (dk_at dksX1_type_1 9 rfl rfl)
theorem dX1_type_36 : decode cX1_type 36 = .ok (.ireturn, 1) := dk_172 (dk_at dksX1_type_1 12 rfl rfl)
abbrev cX1_requireState : ByteArray := prog_1_method_7_code
def yX1_requireState : MethodName := ⟨RX1, "requireState", "(Z)V"⟩
def dkwX1_requireState_0 : List UInt8 := [26, 154, 0, 11, 187, 0, 52, 89, 183, 0, 54, 191, 177]
abbrev dktX1_requireState_0 : List UInt8 := dkwX1_requireState_0 ++ []
theorem dksX1_requireState_0 : cX1_requireState.data.toList.drop 0 = dktX1_requireState_0 := by decide +kernel
theorem dX1_requireState_0 : decode cX1_requireState 0 = .ok (.iload_n 0, 1) := dk_26 (dk_at dksX1_requireState_0 0 rfl rfl)
theorem dX1_requireState_1 : decode cX1_requireState 1 = .ok (.ifCond .ne 11, 3) := dk_154 0 11 (dk_at dksX1_requireState_0 1 rfl rfl)
theorem dX1_requireState_4 : decode cX1_requireState 4 = .ok (.new 52, 3) := dk_187 0 52 (dk_at dksX1_requireState_0 4 rfl rfl)
theorem dX1_requireState_7 : decode cX1_requireState 7 = .ok (.dup, 1) := dk_89 (dk_at dksX1_requireState_0 7 rfl rfl)
theorem dX1_requireState_8 : decode cX1_requireState 8 = .ok (.invokespecial 54, 3) := dk_183 0 54 (dk_at dksX1_requireState_0 8 rfl rfl)
theorem dX1_requireState_11 : decode cX1_requireState 11 = .ok (.athrow, 1) := dk_191 (dk_at dksX1_requireState_0 11 rfl rfl)
theorem dX1_requireState_12 : decode cX1_requireState 12 = .ok (.return_, 1) := dk_177 (dk_at dksX1_requireState_0 12 rfl rfl)
abbrev cX1_read : ByteArray := prog_1_method_44_code
def yX1_read : MethodName := ⟨RX1, "read", "()I"⟩
def dkwX1_read_3 : List UInt8 := [183, 0, 119, 191, 78, 42, 180, 0, 35, 3, 182, 1, 74, 45, 191]
abbrev dktX1_read_3 : List UInt8 := dkwX1_read_3 ++ []
def dkwX1_read_2 : List UInt8 := [182, 1, 79, 181, 0, 39, 187, 0, 49, 89, 183, 0, 51, 191, 76, 42, 43, 181, 0, 113, 187, 0, 117, 89]
abbrev dktX1_read_2 : List UInt8 := dkwX1_read_2 ++ dktX1_read_3
def dkwX1_read_1 : List UInt8 := [185, 0, 73, 1, 0, 182, 0, 109, 61, 42, 180, 0, 35, 3, 182, 1, 74, 28, 172, 76, 42, 43]
abbrev dktX1_read_1 : List UInt8 := dkwX1_read_1 ++ dktX1_read_2
def dkwX1_read_0 : List UInt8 := [187, 1, 62, 89, 42, 180, 0, 35, 183, 1, 64, 182, 1, 67, 76, 42, 42, 43, 182, 1, 70, 43]
abbrev dktX1_read_0 : List UInt8 := dkwX1_read_0 ++ dktX1_read_1
theorem dksX1_read_0 : cX1_read.data.toList.drop 0 = dktX1_read_0 := by decide +kernel
theorem dksX1_read_1 : cX1_read.data.toList.drop 22 = dktX1_read_1 := dk_seg dksX1_read_0 22 rfl rfl
theorem dksX1_read_2 : cX1_read.data.toList.drop 44 = dktX1_read_2 := dk_seg dksX1_read_1 22 rfl rfl
theorem dksX1_read_3 : cX1_read.data.toList.drop 68 = dktX1_read_3 := dk_seg dksX1_read_2 24 rfl rfl
theorem dX1_read_0 : decode cX1_read 0 = .ok (.new 318, 3) := dk_187 1 62 (dk_at dksX1_read_0 0 rfl rfl)
theorem dX1_read_3 : decode cX1_read 3 = .ok (.dup, 1) := dk_89 (dk_at dksX1_read_0 3 rfl rfl)
theorem dX1_read_4 : decode cX1_read 4 = .ok (.aload_n 0, 1) := dk_42 (dk_at dksX1_read_0 4 rfl rfl)
theorem dX1_read_5 : decode cX1_read 5 = .ok (.getfield 35, 3) := dk_180 0 35 (dk_at dksX1_read_0 5 rfl rfl)
theorem dX1_read_8 : decode cX1_read 8 = .ok (.invokespecial 320, 3) := dk_183 1 64 (dk_at dksX1_read_0 8 rfl rfl)
theorem dX1_read_11 : decode cX1_read 11 = .ok (.invokevirtual 323, 3) := dk_182 1 67 (dk_at dksX1_read_0 11 rfl rfl)
theorem dX1_read_14 : decode cX1_read 14 = .ok (.astore_n 1, 1) := dk_76 (dk_at dksX1_read_0 14 rfl rfl)
theorem dX1_read_15 : decode cX1_read 15 = .ok (.aload_n 0, 1) := dk_42 (dk_at dksX1_read_0 15 rfl rfl)
theorem dX1_read_16 : decode cX1_read 16 = .ok (.aload_n 0, 1) := dk_42 (dk_at dksX1_read_0 16 rfl rfl)
theorem dX1_read_17 : decode cX1_read 17 = .ok (.aload_n 1, 1) := dk_43 (dk_at dksX1_read_0 17 rfl rfl)
theorem dX1_read_18 : decode cX1_read 18 = .ok (.invokevirtual 326, 3) := dk_182 1 70 (dk_at dksX1_read_0 18 rfl rfl)
theorem dX1_read_21 : decode cX1_read 21 = .ok (.aload_n 1, 1) := dk_43 (dk_at dksX1_read_0 21 rfl rfl)
theorem dX1_read_22 : decode cX1_read 22 = .ok (.invokeinterface 73 1, 5) := by decide +kernel
theorem dX1_read_27 : decode cX1_read 27 = .ok (.invokevirtual 109, 3) := dk_182 0 109 (dk_at dksX1_read_1 5 rfl rfl)
theorem dX1_read_30 : decode cX1_read 30 = .ok (.istore_n 2, 1) := dk_61 (dk_at dksX1_read_1 8 rfl rfl)
theorem dX1_read_31 : decode cX1_read 31 = .ok (.aload_n 0, 1) := dk_42 (dk_at dksX1_read_1 9 rfl rfl)
theorem dX1_read_32 : decode cX1_read 32 = .ok (.getfield 35, 3) := dk_180 0 35 (dk_at dksX1_read_1 10 rfl rfl)
theorem dX1_read_35 : decode cX1_read 35 = .ok (.iconst 0, 1) := dk_3 (dk_at dksX1_read_1 13 rfl rfl)
theorem dX1_read_36 : decode cX1_read 36 = .ok (.invokevirtual 330, 3) := dk_182 1 74 (dk_at dksX1_read_1 14 rfl rfl)
theorem dX1_read_39 : decode cX1_read 39 = .ok (.iload_n 2, 1) := dk_28 (dk_at dksX1_read_1 17 rfl rfl)
theorem dX1_read_40 : decode cX1_read 40 = .ok (.ireturn, 1) := dk_172 (dk_at dksX1_read_1 18 rfl rfl)
theorem dX1_read_41 : decode cX1_read 41 = .ok (.astore_n 1, 1) := dk_76 (dk_at dksX1_read_1 19 rfl rfl)
theorem dX1_read_42 : decode cX1_read 42 = .ok (.aload_n 0, 1) := dk_42 (dk_at dksX1_read_1 20 rfl rfl)
theorem dX1_read_43 : decode cX1_read 43 = .ok (.aload_n 1, 1) := dk_43 (dk_at dksX1_read_1 21 rfl rfl)
theorem dX1_read_44 : decode cX1_read 44 = .ok (.invokevirtual 335, 3) := dk_182 1 79 (dk_at dksX1_read_2 0 rfl rfl)
theorem dX1_read_47 : decode cX1_read 47 = .ok (.putfield 39, 3) := dk_181 0 39 (dk_at dksX1_read_2 3 rfl rfl)
theorem dX1_read_50 : decode cX1_read 50 = .ok (.new 49, 3) := dk_187 0 49 (dk_at dksX1_read_2 6 rfl rfl)
theorem dX1_read_53 : decode cX1_read 53 = .ok (.dup, 1) := dk_89 (dk_at dksX1_read_2 9 rfl rfl)
theorem dX1_read_54 : decode cX1_read 54 = .ok (.invokespecial 51, 3) := dk_183 0 51 (dk_at dksX1_read_2 10 rfl rfl)
theorem dX1_read_57 : decode cX1_read 57 = .ok (.athrow, 1) := dk_191 (dk_at dksX1_read_2 13 rfl rfl)
theorem dX1_read_58 : decode cX1_read 58 = .ok (.astore_n 1, 1) := dk_76 (dk_at dksX1_read_2 14 rfl rfl)
theorem dX1_read_59 : decode cX1_read 59 = .ok (.aload_n 0, 1) := dk_42 (dk_at dksX1_read_2 15 rfl rfl)
theorem dX1_read_60 : decode cX1_read 60 = .ok (.aload_n 1, 1) := dk_43 (dk_at dksX1_read_2 16 rfl rfl)
theorem dX1_read_61 : decode cX1_read 61 = .ok (.putfield 113, 3) := dk_181 0 113 (dk_at dksX1_read_2 17 rfl rfl)
theorem dX1_read_64 : decode cX1_read 64 = .ok (.new 117, 3) := dk_187 0 117 (dk_at dksX1_read_2 20 rfl rfl)
theorem dX1_read_67 : decode cX1_read 67 = .ok (.dup, 1) := dk_89 (dk_at dksX1_read_2 23 rfl rfl)
theorem dX1_read_68 : decode cX1_read 68 = .ok (.invokespecial 119, 3) := dk_183 0 119 (dk_at dksX1_read_3 0 rfl rfl)
theorem dX1_read_71 : decode cX1_read 71 = .ok (.athrow, 1) := dk_191 (dk_at dksX1_read_3 3 rfl rfl)
theorem dX1_read_72 : decode cX1_read 72 = .ok (.astore_n 3, 1) := dk_78 (dk_at dksX1_read_3 4 rfl rfl)
theorem dX1_read_73 : decode cX1_read 73 = .ok (.aload_n 0, 1) := dk_42 (dk_at dksX1_read_3 5 rfl rfl)
theorem dX1_read_74 : decode cX1_read 74 = .ok (.getfield 35, 3) := dk_180 0 35 (dk_at dksX1_read_3 6 rfl rfl)
theorem dX1_read_77 : decode cX1_read 77 = .ok (.iconst 0, 1) := dk_3 (dk_at dksX1_read_3 9 rfl rfl)
theorem dX1_read_78 : decode cX1_read 78 = .ok (.invokevirtual 330, 3) := dk_182 1 74 (dk_at dksX1_read_3 10 rfl rfl)
theorem dX1_read_81 : decode cX1_read 81 = .ok (.aload_n 3, 1) := dk_45 (dk_at dksX1_read_3 13 rfl rfl)
theorem dX1_read_82 : decode cX1_read 82 = .ok (.athrow, 1) := dk_191 (dk_at dksX1_read_3 14 rfl rfl)
abbrev cX1_carriedOut : ByteArray := prog_1_method_43_code
def yX1_carriedOut : MethodName := ⟨RX1, "carriedOut", "(Ljava/util/List;)LBoxSpans$Theatre;"⟩
def dkwX1_carriedOut_3 : List UInt8 := [89, 16, 10, 29, 25, 6, 183, 0, 3, 191, 132, 3, 1, 167, 255, 194, 44, 176]
abbrev dktX1_carriedOut_3 : List UInt8 := dkwX1_carriedOut_3 ++ []
def dkwX1_carriedOut_2 : List UInt8 := [182, 1, 53, 16, 10, 29, 184, 1, 57, 25, 5, 44, 182, 1, 61, 87, 167, 0, 18, 58, 6, 187, 0, 1]
abbrev dktX1_carriedOut_2 : List UInt8 := dkwX1_carriedOut_2 ++ dktX1_carriedOut_3
def dkwX1_carriedOut_1 : List UInt8 := [185, 1, 43, 1, 0, 153, 0, 58, 25, 4, 185, 1, 48, 1, 0, 192, 1, 51, 58, 5, 25, 5, 44]
abbrev dktX1_carriedOut_1 : List UInt8 := dkwX1_carriedOut_1 ++ dktX1_carriedOut_2
def dkwX1_carriedOut_0 : List UInt8 := [42, 180, 0, 21, 182, 0, 99, 77, 3, 62, 43, 185, 1, 39, 1, 0, 58, 4, 25, 4]
abbrev dktX1_carriedOut_0 : List UInt8 := dkwX1_carriedOut_0 ++ dktX1_carriedOut_1
theorem dksX1_carriedOut_0 : cX1_carriedOut.data.toList.drop 0 = dktX1_carriedOut_0 := by decide +kernel
theorem dksX1_carriedOut_1 : cX1_carriedOut.data.toList.drop 20 = dktX1_carriedOut_1 := dk_seg dksX1_carriedOut_0 20 rfl rfl
theorem dksX1_carriedOut_2 : cX1_carriedOut.data.toList.drop 43 = dktX1_carriedOut_2 := dk_seg dksX1_carriedOut_1 23 rfl rfl
theorem dksX1_carriedOut_3 : cX1_carriedOut.data.toList.drop 67 = dktX1_carriedOut_3 := dk_seg dksX1_carriedOut_2 24 rfl rfl
theorem dX1_carriedOut_0 : decode cX1_carriedOut 0 = .ok (.aload_n 0, 1) := dk_42 (dk_at dksX1_carriedOut_0 0 rfl rfl)
theorem dX1_carriedOut_1 : decode cX1_carriedOut 1 = .ok (.getfield 21, 3) := dk_180 0 21 (dk_at dksX1_carriedOut_0 1 rfl rfl)
theorem dX1_carriedOut_4 : decode cX1_carriedOut 4 = .ok (.invokevirtual 99, 3) := dk_182 0 99 (dk_at dksX1_carriedOut_0 4 rfl rfl)
theorem dX1_carriedOut_7 : decode cX1_carriedOut 7 = .ok (.astore_n 2, 1) := dk_77 (dk_at dksX1_carriedOut_0 7 rfl rfl)
theorem dX1_carriedOut_8 : decode cX1_carriedOut 8 = .ok (.iconst 0, 1) := dk_3 (dk_at dksX1_carriedOut_0 8 rfl rfl)
theorem dX1_carriedOut_9 : decode cX1_carriedOut 9 = .ok (.istore_n 3, 1) := dk_62 (dk_at dksX1_carriedOut_0 9 rfl rfl)
theorem dX1_carriedOut_10 : decode cX1_carriedOut 10 = .ok (.aload_n 1, 1) := dk_43 (dk_at dksX1_carriedOut_0 10 rfl rfl)
theorem dX1_carriedOut_11 : decode cX1_carriedOut 11 = .ok (.invokeinterface 295 1, 5) := by decide +kernel
theorem dX1_carriedOut_16 : decode cX1_carriedOut 16 = .ok (.astore 4, 2) := dk_58 4 (dk_at dksX1_carriedOut_0 16 rfl rfl)
theorem dX1_carriedOut_18 : decode cX1_carriedOut 18 = .ok (.aload 4, 2) := dk_25 4 (dk_at dksX1_carriedOut_0 18 rfl rfl)
theorem dX1_carriedOut_20 : decode cX1_carriedOut 20 = .ok (.invokeinterface 299 1, 5) := by decide +kernel
theorem dX1_carriedOut_25 : decode cX1_carriedOut 25 = .ok (.ifCond .eq 58, 3) := dk_153 0 58 (dk_at dksX1_carriedOut_1 5 rfl rfl)
theorem dX1_carriedOut_28 : decode cX1_carriedOut 28 = .ok (.aload 4, 2) := dk_25 4 (dk_at dksX1_carriedOut_1 8 rfl rfl)
theorem dX1_carriedOut_30 : decode cX1_carriedOut 30 = .ok (.invokeinterface 304 1, 5) := by decide +kernel
theorem dX1_carriedOut_35 : decode cX1_carriedOut 35 = .ok (.checkcast 307, 3) := dk_192 1 51 (dk_at dksX1_carriedOut_1 15 rfl rfl)
theorem dX1_carriedOut_38 : decode cX1_carriedOut 38 = .ok (.astore 5, 2) := dk_58 5 (dk_at dksX1_carriedOut_1 18 rfl rfl)
theorem dX1_carriedOut_40 : decode cX1_carriedOut 40 = .ok (.aload 5, 2) := dk_25 5 (dk_at dksX1_carriedOut_1 20 rfl rfl)
theorem dX1_carriedOut_42 : decode cX1_carriedOut 42 = .ok (.aload_n 2, 1) := dk_44 (dk_at dksX1_carriedOut_1 22 rfl rfl)
theorem dX1_carriedOut_43 : decode cX1_carriedOut 43 = .ok (.invokevirtual 309, 3) := dk_182 1 53 (dk_at dksX1_carriedOut_2 0 rfl rfl)
theorem dX1_carriedOut_46 : decode cX1_carriedOut 46 = .ok (.bipush 10, 2) := dk_16 10 (dk_at dksX1_carriedOut_2 3 rfl rfl)
theorem dX1_carriedOut_48 : decode cX1_carriedOut 48 = .ok (.iload_n 3, 1) := dk_29 (dk_at dksX1_carriedOut_2 5 rfl rfl)
theorem dX1_carriedOut_49 : decode cX1_carriedOut 49 = .ok (.invokestatic 313, 3) := dk_184 1 57 (dk_at dksX1_carriedOut_2 6 rfl rfl)
theorem dX1_carriedOut_52 : decode cX1_carriedOut 52 = .ok (.aload 5, 2) := dk_25 5 (dk_at dksX1_carriedOut_2 9 rfl rfl)
theorem dX1_carriedOut_54 : decode cX1_carriedOut 54 = .ok (.aload_n 2, 1) := dk_44 (dk_at dksX1_carriedOut_2 11 rfl rfl)
theorem dX1_carriedOut_55 : decode cX1_carriedOut 55 = .ok (.invokevirtual 317, 3) := dk_182 1 61 (dk_at dksX1_carriedOut_2 12 rfl rfl)
theorem dX1_carriedOut_58 : decode cX1_carriedOut 58 = .ok (.pop, 1) := dk_87 (dk_at dksX1_carriedOut_2 15 rfl rfl)
theorem dX1_carriedOut_59 : decode cX1_carriedOut 59 = .ok (.goto 18, 3) := dk_167 0 18 (dk_at dksX1_carriedOut_2 16 rfl rfl)
theorem dX1_carriedOut_62 : decode cX1_carriedOut 62 = .ok (.astore 6, 2) := dk_58 6 (dk_at dksX1_carriedOut_2 19 rfl rfl)
theorem dX1_carriedOut_64 : decode cX1_carriedOut 64 = .ok (.new 1, 3) := dk_187 0 1 (dk_at dksX1_carriedOut_2 21 rfl rfl)
theorem dX1_carriedOut_67 : decode cX1_carriedOut 67 = .ok (.dup, 1) := dk_89 (dk_at dksX1_carriedOut_3 0 rfl rfl)
theorem dX1_carriedOut_68 : decode cX1_carriedOut 68 = .ok (.bipush 10, 2) := dk_16 10 (dk_at dksX1_carriedOut_3 1 rfl rfl)
theorem dX1_carriedOut_70 : decode cX1_carriedOut 70 = .ok (.iload_n 3, 1) := dk_29 (dk_at dksX1_carriedOut_3 3 rfl rfl)
theorem dX1_carriedOut_71 : decode cX1_carriedOut 71 = .ok (.aload 6, 2) := dk_25 6 (dk_at dksX1_carriedOut_3 4 rfl rfl)
theorem dX1_carriedOut_73 : decode cX1_carriedOut 73 = .ok (.invokespecial 3, 3) := dk_183 0 3 (dk_at dksX1_carriedOut_3 6 rfl rfl)
theorem dX1_carriedOut_76 : decode cX1_carriedOut 76 = .ok (.athrow, 1) := dk_191 (dk_at dksX1_carriedOut_3 9 rfl rfl)
theorem dX1_carriedOut_77 : decode cX1_carriedOut 77 = .ok (.iinc 3 1, 3) := dk_132 3 1 (dk_at dksX1_carriedOut_3 10 rfl rfl)
theorem dX1_carriedOut_80 : decode cX1_carriedOut 80 = .ok (.goto (-62), 3) := dk_167 255 194 (dk_at dksX1_carriedOut_3 13 rfl rfl)
theorem dX1_carriedOut_83 : decode cX1_carriedOut 83 = .ok (.aload_n 2, 1) := dk_44 (dk_at dksX1_carriedOut_3 16 rfl rfl)
theorem dX1_carriedOut_84 : decode cX1_carriedOut 84 = .ok (.areturn, 1) := dk_176 (dk_at dksX1_carriedOut_3 17 rfl rfl)
abbrev cX1_errorPosition : ByteArray := prog_1_method_45_code
def yX1_errorPosition : MethodName := ⟨RX1, "errorPosition", "()I"⟩
def dkwX1_errorPosition_0 : List UInt8 := [42, 180, 0, 39, 2, 159, 0, 7, 4, 167, 0, 4, 3, 184, 0, 209, 42, 180, 0, 39, 172]
abbrev dktX1_errorPosition_0 : List UInt8 := dkwX1_errorPosition_0 ++ []
theorem dksX1_errorPosition_0 : cX1_errorPosition.data.toList.drop 0 = dktX1_errorPosition_0 := by decide +kernel
theorem dX1_errorPosition_0 : decode cX1_errorPosition 0 = .ok (.aload_n 0, 1) := dk_42 (dk_at dksX1_errorPosition_0 0 rfl rfl)
theorem dX1_errorPosition_1 : decode cX1_errorPosition 1 = .ok (.getfield 39, 3) := dk_180 0 39 (dk_at dksX1_errorPosition_0 1 rfl rfl)
theorem dX1_errorPosition_4 : decode cX1_errorPosition 4 = .ok (.iconst (-1), 1) := dk_2 (dk_at dksX1_errorPosition_0 4 rfl rfl)
theorem dX1_errorPosition_5 : decode cX1_errorPosition 5 = .ok (.if_icmp .eq 7, 3) := dk_159 0 7 (dk_at dksX1_errorPosition_0 5 rfl rfl)
theorem dX1_errorPosition_8 : decode cX1_errorPosition 8 = .ok (.iconst 1, 1) := dk_4 (dk_at dksX1_errorPosition_0 8 rfl rfl)
theorem dX1_errorPosition_9 : decode cX1_errorPosition 9 = .ok (.goto 4, 3) := dk_167 0 4 (dk_at dksX1_errorPosition_0 9 rfl rfl)
theorem dX1_errorPosition_12 : decode cX1_errorPosition 12 = .ok (.iconst 0, 1) := dk_3 (dk_at dksX1_errorPosition_0 12 rfl rfl)
theorem dX1_errorPosition_13 : decode cX1_errorPosition 13 = .ok (.invokestatic 209, 3) := dk_184 0 209 (dk_at dksX1_errorPosition_0 13 rfl rfl)
theorem dX1_errorPosition_16 : decode cX1_errorPosition 16 = .ok (.aload_n 0, 1) := dk_42 (dk_at dksX1_errorPosition_0 16 rfl rfl)
theorem dX1_errorPosition_17 : decode cX1_errorPosition 17 = .ok (.getfield 39, 3) := dk_180 0 39 (dk_at dksX1_errorPosition_0 17 rfl rfl)
theorem dX1_errorPosition_20 : decode cX1_errorPosition 20 = .ok (.ireturn, 1) := dk_172 (dk_at dksX1_errorPosition_0 20 rfl rfl)
abbrev cX1_refusal : ByteArray := prog_1_method_46_code
def yX1_refusal : MethodName := ⟨RX1, "refusal", "(ZZ)I"⟩
def dkwX1_refusal_2 : List UInt8 := [192, 0, 1, 78, 45, 28, 182, 1, 82, 172, 187, 0, 55, 89, 183, 0, 57, 191]
abbrev dktX1_refusal_2 : List UInt8 := dkwX1_refusal_2 ++ []
def dkwX1_refusal_1 : List UInt8 := [182, 1, 82, 172, 42, 180, 0, 113, 182, 1, 85, 58, 4, 25, 4, 193, 0, 1, 153, 0, 15, 25, 4]
abbrev dktX1_refusal_1 : List UInt8 := dkwX1_refusal_1 ++ dktX1_refusal_2
def dkwX1_refusal_0 : List UInt8 := [42, 180, 0, 113, 198, 0, 7, 4, 167, 0, 4, 3, 184, 0, 209, 27, 154, 0, 12, 42, 180, 0, 113, 28]
abbrev dktX1_refusal_0 : List UInt8 := dkwX1_refusal_0 ++ dktX1_refusal_1
theorem dksX1_refusal_0 : cX1_refusal.data.toList.drop 0 = dktX1_refusal_0 := by decide +kernel
theorem dksX1_refusal_1 : cX1_refusal.data.toList.drop 24 = dktX1_refusal_1 := dk_seg dksX1_refusal_0 24 rfl rfl
theorem dksX1_refusal_2 : cX1_refusal.data.toList.drop 47 = dktX1_refusal_2 := dk_seg dksX1_refusal_1 23 rfl rfl
theorem dX1_refusal_0 : decode cX1_refusal 0 = .ok (.aload_n 0, 1) := dk_42 (dk_at dksX1_refusal_0 0 rfl rfl)
theorem dX1_refusal_1 : decode cX1_refusal 1 = .ok (.getfield 113, 3) := dk_180 0 113 (dk_at dksX1_refusal_0 1 rfl rfl)
theorem dX1_refusal_4 : decode cX1_refusal 4 = .ok (.ifnull 7, 3) := dk_198 0 7 (dk_at dksX1_refusal_0 4 rfl rfl)
theorem dX1_refusal_7 : decode cX1_refusal 7 = .ok (.iconst 1, 1) := dk_4 (dk_at dksX1_refusal_0 7 rfl rfl)
theorem dX1_refusal_8 : decode cX1_refusal 8 = .ok (.goto 4, 3) := dk_167 0 4 (dk_at dksX1_refusal_0 8 rfl rfl)
theorem dX1_refusal_11 : decode cX1_refusal 11 = .ok (.iconst 0, 1) := dk_3 (dk_at dksX1_refusal_0 11 rfl rfl)
theorem dX1_refusal_12 : decode cX1_refusal 12 = .ok (.invokestatic 209, 3) := dk_184 0 209 (dk_at dksX1_refusal_0 12 rfl rfl)
theorem dX1_refusal_15 : decode cX1_refusal 15 = .ok (.iload_n 1, 1) := dk_27 (dk_at dksX1_refusal_0 15 rfl rfl)
theorem dX1_refusal_16 : decode cX1_refusal 16 = .ok (.ifCond .ne 12, 3) := dk_154 0 12 (dk_at dksX1_refusal_0 16 rfl rfl)
theorem dX1_refusal_19 : decode cX1_refusal 19 = .ok (.aload_n 0, 1) := dk_42 (dk_at dksX1_refusal_0 19 rfl rfl)
theorem dX1_refusal_20 : decode cX1_refusal 20 = .ok (.getfield 113, 3) := dk_180 0 113 (dk_at dksX1_refusal_0 20 rfl rfl)
theorem dX1_refusal_23 : decode cX1_refusal 23 = .ok (.iload_n 2, 1) := dk_28 (dk_at dksX1_refusal_0 23 rfl rfl)
theorem dX1_refusal_24 : decode cX1_refusal 24 = .ok (.invokevirtual 338, 3) := dk_182 1 82 (dk_at dksX1_refusal_1 0 rfl rfl)
theorem dX1_refusal_27 : decode cX1_refusal 27 = .ok (.ireturn, 1) := dk_172 (dk_at dksX1_refusal_1 3 rfl rfl)
theorem dX1_refusal_28 : decode cX1_refusal 28 = .ok (.aload_n 0, 1) := dk_42 (dk_at dksX1_refusal_1 4 rfl rfl)
theorem dX1_refusal_29 : decode cX1_refusal 29 = .ok (.getfield 113, 3) := dk_180 0 113 (dk_at dksX1_refusal_1 5 rfl rfl)
theorem dX1_refusal_32 : decode cX1_refusal 32 = .ok (.invokevirtual 341, 3) := dk_182 1 85 (dk_at dksX1_refusal_1 8 rfl rfl)
theorem dX1_refusal_35 : decode cX1_refusal 35 = .ok (.astore 4, 2) := dk_58 4 (dk_at dksX1_refusal_1 11 rfl rfl)
theorem dX1_refusal_37 : decode cX1_refusal 37 = .ok (.aload 4, 2) := dk_25 4 (dk_at dksX1_refusal_1 13 rfl rfl)
theorem dX1_refusal_39 : decode cX1_refusal 39 = .ok (.instanceof 1, 3) := dk_193 0 1 (dk_at dksX1_refusal_1 15 rfl rfl)
theorem dX1_refusal_42 : decode cX1_refusal 42 = .ok (.ifCond .eq 15, 3) := dk_153 0 15 (dk_at dksX1_refusal_1 18 rfl rfl)
theorem dX1_refusal_45 : decode cX1_refusal 45 = .ok (.aload 4, 2) := dk_25 4 (dk_at dksX1_refusal_1 21 rfl rfl)
theorem dX1_refusal_47 : decode cX1_refusal 47 = .ok (.checkcast 1, 3) := dk_192 0 1 (dk_at dksX1_refusal_2 0 rfl rfl)
theorem dX1_refusal_50 : decode cX1_refusal 50 = .ok (.astore_n 3, 1) := dk_78 (dk_at dksX1_refusal_2 3 rfl rfl)
theorem dX1_refusal_51 : decode cX1_refusal 51 = .ok (.aload_n 3, 1) := dk_45 (dk_at dksX1_refusal_2 4 rfl rfl)
theorem dX1_refusal_52 : decode cX1_refusal 52 = .ok (.iload_n 2, 1) := dk_28 (dk_at dksX1_refusal_2 5 rfl rfl)
theorem dX1_refusal_53 : decode cX1_refusal 53 = .ok (.invokevirtual 338, 3) := dk_182 1 82 (dk_at dksX1_refusal_2 6 rfl rfl)
theorem dX1_refusal_56 : decode cX1_refusal 56 = .ok (.ireturn, 1) := dk_172 (dk_at dksX1_refusal_2 9 rfl rfl)
theorem dX1_refusal_57 : decode cX1_refusal 57 = .ok (.new 55, 3) := dk_187 0 55 (dk_at dksX1_refusal_2 10 rfl rfl)
theorem dX1_refusal_60 : decode cX1_refusal 60 = .ok (.dup, 1) := dk_89 (dk_at dksX1_refusal_2 13 rfl rfl)
theorem dX1_refusal_61 : decode cX1_refusal 61 = .ok (.invokespecial 57, 3) := dk_183 0 57 (dk_at dksX1_refusal_2 14 rfl rfl)
theorem dX1_refusal_64 : decode cX1_refusal 64 = .ok (.athrow, 1) := dk_191 (dk_at dksX1_refusal_2 17 rfl rfl)
abbrev cX1_describe : ByteArray := prog_1_method_48_code
def yX1_describe : MethodName := ⟨RX1, "describe", "(I)I"⟩
def dkwX1_describe_4 : List UInt8 := [25, 4, 182, 0, 162, 182, 1, 105, 87, 167, 255, 182, 42, 44, 182, 1, 108, 172]
abbrev dktX1_describe_4 : List UInt8 := dkwX1_describe_4 ++ []
def dkwX1_describe_3 : List UInt8 := [182, 0, 156, 182, 1, 105, 16, 45, 182, 1, 35, 25, 4, 182, 0, 159, 182, 1, 105, 16, 120, 182, 1, 35]
abbrev dktX1_describe_3 : List UInt8 := dkwX1_describe_3 ++ dktX1_describe_4
def dkwX1_describe_2 : List UInt8 := [58, 4, 44, 44, 182, 1, 29, 158, 0, 9, 19, 1, 100, 167, 0, 5, 18, 43, 182, 1, 102, 25, 4]
abbrev dktX1_describe_2 : List UInt8 := dkwX1_describe_2 ++ dktX1_describe_3
def dkwX1_describe_1 : List UInt8 := [185, 1, 39, 1, 0, 78, 45, 185, 1, 43, 1, 0, 153, 0, 71, 45, 185, 1, 48, 1, 0, 192, 0, 152]
abbrev dktX1_describe_1 : List UInt8 := dkwX1_describe_1 ++ dktX1_describe_2
def dkwX1_describe_0 : List UInt8 := [42, 27, 182, 0, 127, 187, 0, 32, 89, 183, 0, 34, 77, 42, 180, 0, 21, 27, 182, 1, 96]
abbrev dktX1_describe_0 : List UInt8 := dkwX1_describe_0 ++ dktX1_describe_1
theorem dksX1_describe_0 : cX1_describe.data.toList.drop 0 = dktX1_describe_0 := by decide +kernel
theorem dksX1_describe_1 : cX1_describe.data.toList.drop 21 = dktX1_describe_1 := dk_seg dksX1_describe_0 21 rfl rfl
theorem dksX1_describe_2 : cX1_describe.data.toList.drop 45 = dktX1_describe_2 := dk_seg dksX1_describe_1 24 rfl rfl
theorem dksX1_describe_3 : cX1_describe.data.toList.drop 68 = dktX1_describe_3 := dk_seg dksX1_describe_2 23 rfl rfl
theorem dksX1_describe_4 : cX1_describe.data.toList.drop 92 = dktX1_describe_4 := dk_seg dksX1_describe_3 24 rfl rfl
theorem dX1_describe_0 : decode cX1_describe 0 = .ok (.aload_n 0, 1) := dk_42 (dk_at dksX1_describe_0 0 rfl rfl)
theorem dX1_describe_1 : decode cX1_describe 1 = .ok (.iload_n 1, 1) := dk_27 (dk_at dksX1_describe_0 1 rfl rfl)
theorem dX1_describe_2 : decode cX1_describe 2 = .ok (.invokevirtual 127, 3) := dk_182 0 127 (dk_at dksX1_describe_0 2 rfl rfl)
theorem dX1_describe_5 : decode cX1_describe 5 = .ok (.new 32, 3) := dk_187 0 32 (dk_at dksX1_describe_0 5 rfl rfl)
theorem dX1_describe_8 : decode cX1_describe 8 = .ok (.dup, 1) := dk_89 (dk_at dksX1_describe_0 8 rfl rfl)
theorem dX1_describe_9 : decode cX1_describe 9 = .ok (.invokespecial 34, 3) := dk_183 0 34 (dk_at dksX1_describe_0 9 rfl rfl)
theorem dX1_describe_12 : decode cX1_describe 12 = .ok (.astore_n 2, 1) := dk_77 (dk_at dksX1_describe_0 12 rfl rfl)
theorem dX1_describe_13 : decode cX1_describe 13 = .ok (.aload_n 0, 1) := dk_42 (dk_at dksX1_describe_0 13 rfl rfl)
theorem dX1_describe_14 : decode cX1_describe 14 = .ok (.getfield 21, 3) := dk_180 0 21 (dk_at dksX1_describe_0 14 rfl rfl)
theorem dX1_describe_17 : decode cX1_describe 17 = .ok (.iload_n 1, 1) := dk_27 (dk_at dksX1_describe_0 17 rfl rfl)
theorem dX1_describe_18 : decode cX1_describe 18 = .ok (.invokevirtual 352, 3) := dk_182 1 96 (dk_at dksX1_describe_0 18 rfl rfl)
theorem dX1_describe_21 : decode cX1_describe 21 = .ok (.invokeinterface 295 1, 5) := by decide +kernel
theorem dX1_describe_26 : decode cX1_describe 26 = .ok (.astore_n 3, 1) := dk_78 (dk_at dksX1_describe_1 5 rfl rfl)
theorem dX1_describe_27 : decode cX1_describe 27 = .ok (.aload_n 3, 1) := dk_45 (dk_at dksX1_describe_1 6 rfl rfl)
theorem dX1_describe_28 : decode cX1_describe 28 = .ok (.invokeinterface 299 1, 5) := by decide +kernel
theorem dX1_describe_33 : decode cX1_describe 33 = .ok (.ifCond .eq 71, 3) := dk_153 0 71 (dk_at dksX1_describe_1 12 rfl rfl)
theorem dX1_describe_36 : decode cX1_describe 36 = .ok (.aload_n 3, 1) := dk_45 (dk_at dksX1_describe_1 15 rfl rfl)
theorem dX1_describe_37 : decode cX1_describe 37 = .ok (.invokeinterface 304 1, 5) := by decide +kernel
theorem dX1_describe_42 : decode cX1_describe 42 = .ok (.checkcast 152, 3) := dk_192 0 152 (dk_at dksX1_describe_1 21 rfl rfl)
theorem dX1_describe_45 : decode cX1_describe 45 = .ok (.astore 4, 2) := dk_58 4 (dk_at dksX1_describe_2 0 rfl rfl)
theorem dX1_describe_47 : decode cX1_describe 47 = .ok (.aload_n 2, 1) := dk_44 (dk_at dksX1_describe_2 2 rfl rfl)
theorem dX1_describe_48 : decode cX1_describe 48 = .ok (.aload_n 2, 1) := dk_44 (dk_at dksX1_describe_2 3 rfl rfl)
theorem dX1_describe_49 : decode cX1_describe 49 = .ok (.invokevirtual 285, 3) := dk_182 1 29 (dk_at dksX1_describe_2 4 rfl rfl)
theorem dX1_describe_52 : decode cX1_describe 52 = .ok (.ifCond .le 9, 3) := dk_158 0 9 (dk_at dksX1_describe_2 7 rfl rfl)
theorem dX1_describe_55 : decode cX1_describe 55 = .ok (.ldc_w 356, 3) := dk_19 1 100 (dk_at dksX1_describe_2 10 rfl rfl)
theorem dX1_describe_58 : decode cX1_describe 58 = .ok (.goto 5, 3) := dk_167 0 5 (dk_at dksX1_describe_2 13 rfl rfl)
theorem dX1_describe_61 : decode cX1_describe 61 = .ok (.ldc 43, 2) := dk_18 43 (dk_at dksX1_describe_2 16 rfl rfl)
theorem dX1_describe_63 : decode cX1_describe 63 = .ok (.invokevirtual 358, 3) := dk_182 1 102 (dk_at dksX1_describe_2 18 rfl rfl)
theorem dX1_describe_66 : decode cX1_describe 66 = .ok (.aload 4, 2) := dk_25 4 (dk_at dksX1_describe_2 21 rfl rfl)
theorem dX1_describe_68 : decode cX1_describe 68 = .ok (.invokevirtual 156, 3) := dk_182 0 156 (dk_at dksX1_describe_3 0 rfl rfl)
theorem dX1_describe_71 : decode cX1_describe 71 = .ok (.invokevirtual 361, 3) := dk_182 1 105 (dk_at dksX1_describe_3 3 rfl rfl)
theorem dX1_describe_74 : decode cX1_describe 74 = .ok (.bipush 45, 2) := dk_16 45 (dk_at dksX1_describe_3 6 rfl rfl)
theorem dX1_describe_76 : decode cX1_describe 76 = .ok (.invokevirtual 291, 3) := dk_182 1 35 (dk_at dksX1_describe_3 8 rfl rfl)
theorem dX1_describe_79 : decode cX1_describe 79 = .ok (.aload 4, 2) := dk_25 4 (dk_at dksX1_describe_3 11 rfl rfl)
theorem dX1_describe_81 : decode cX1_describe 81 = .ok (.invokevirtual 159, 3) := dk_182 0 159 (dk_at dksX1_describe_3 13 rfl rfl)
theorem dX1_describe_84 : decode cX1_describe 84 = .ok (.invokevirtual 361, 3) := dk_182 1 105 (dk_at dksX1_describe_3 16 rfl rfl)
theorem dX1_describe_87 : decode cX1_describe 87 = .ok (.bipush 120, 2) := dk_16 120 (dk_at dksX1_describe_3 19 rfl rfl)
theorem dX1_describe_89 : decode cX1_describe 89 = .ok (.invokevirtual 291, 3) := dk_182 1 35 (dk_at dksX1_describe_3 21 rfl rfl)
theorem dX1_describe_92 : decode cX1_describe 92 = .ok (.aload 4, 2) := dk_25 4 (dk_at dksX1_describe_4 0 rfl rfl)
theorem dX1_describe_94 : decode cX1_describe 94 = .ok (.invokevirtual 162, 3) := dk_182 0 162 (dk_at dksX1_describe_4 2 rfl rfl)
theorem dX1_describe_97 : decode cX1_describe 97 = .ok (.invokevirtual 361, 3) := dk_182 1 105 (dk_at dksX1_describe_4 5 rfl rfl)
theorem dX1_describe_100 : decode cX1_describe 100 = .ok (.pop, 1) := dk_87 (dk_at dksX1_describe_4 8 rfl rfl)
theorem dX1_describe_101 : decode cX1_describe 101 = .ok (.goto (-74), 3) := dk_167 255 182 (dk_at dksX1_describe_4 9 rfl rfl)
theorem dX1_describe_104 : decode cX1_describe 104 = .ok (.aload_n 0, 1) := dk_42 (dk_at dksX1_describe_4 12 rfl rfl)
theorem dX1_describe_105 : decode cX1_describe 105 = .ok (.aload_n 2, 1) := dk_44 (dk_at dksX1_describe_4 13 rfl rfl)
theorem dX1_describe_106 : decode cX1_describe 106 = .ok (.invokevirtual 364, 3) := dk_182 1 108 (dk_at dksX1_describe_4 14 rfl rfl)
theorem dX1_describe_109 : decode cX1_describe 109 = .ok (.ireturn, 1) := dk_172 (dk_at dksX1_describe_4 17 rfl rfl)
abbrev cX1_lineBecomes : ByteArray := prog_1_method_47_code
def yX1_lineBecomes : MethodName := ⟨RX1, "lineBecomes", "(Ljava/lang/StringBuilder;)I"⟩
def dkwX1_lineBecomes_0 : List UInt8 := [42, 43, 182, 1, 89, 181, 0, 45, 42, 180, 0, 45, 182, 1, 93, 172]
abbrev dktX1_lineBecomes_0 : List UInt8 := dkwX1_lineBecomes_0 ++ []
theorem dksX1_lineBecomes_0 : cX1_lineBecomes.data.toList.drop 0 = dktX1_lineBecomes_0 := by decide +kernel
theorem dX1_lineBecomes_0 : decode cX1_lineBecomes 0 = .ok (.aload_n 0, 1) := dk_42 (dk_at dksX1_lineBecomes_0 0 rfl rfl)
theorem dX1_lineBecomes_1 : decode cX1_lineBecomes 1 = .ok (.aload_n 1, 1) := dk_43 (dk_at dksX1_lineBecomes_0 1 rfl rfl)
theorem dX1_lineBecomes_2 : decode cX1_lineBecomes 2 = .ok (.invokevirtual 345, 3) := dk_182 1 89 (dk_at dksX1_lineBecomes_0 2 rfl rfl)
theorem dX1_lineBecomes_5 : decode cX1_lineBecomes 5 = .ok (.putfield 45, 3) := dk_181 0 45 (dk_at dksX1_lineBecomes_0 5 rfl rfl)
theorem dX1_lineBecomes_8 : decode cX1_lineBecomes 8 = .ok (.aload_n 0, 1) := dk_42 (dk_at dksX1_lineBecomes_0 8 rfl rfl)
theorem dX1_lineBecomes_9 : decode cX1_lineBecomes 9 = .ok (.getfield 45, 3) := dk_180 0 45 (dk_at dksX1_lineBecomes_0 9 rfl rfl)
theorem dX1_lineBecomes_12 : decode cX1_lineBecomes 12 = .ok (.invokevirtual 349, 3) := dk_182 1 93 (dk_at dksX1_lineBecomes_0 12 rfl rfl)
theorem dX1_lineBecomes_15 : decode cX1_lineBecomes 15 = .ok (.ireturn, 1) := dk_172 (dk_at dksX1_lineBecomes_0 15 rfl rfl)
abbrev cX1_show : ByteArray := prog_1_method_49_code
def yX1_show : MethodName := ⟨RX1, "show", "(II)I"⟩
def dkwX1_show_4 : List UInt8 := [132, 5, 5, 167, 255, 198, 42, 25, 4, 182, 1, 108, 172]
abbrev dktX1_show_4 : List UInt8 := dkwX1_show_4 ++ []
def dkwX1_show_3 : List UInt8 := [160, 0, 8, 16, 35, 167, 0, 15, 21, 6, 158, 0, 8, 16, 43, 167, 0, 5, 16, 46, 182, 1, 35, 87]
abbrev dktX1_show_3 : List UInt8 := dkwX1_show_3 ++ dktX1_show_4
def dkwX1_show_2 : List UInt8 := [162, 0, 52, 45, 186, 1, 112, 0, 0, 21, 5, 8, 184, 1, 17, 54, 6, 25, 4, 21, 6, 8]
abbrev dktX1_show_2 : List UInt8 := dkwX1_show_2 ++ dktX1_show_3
def dkwX1_show_1 : List UInt8 := [187, 0, 32, 89, 183, 0, 34, 58, 4, 16, 60, 28, 104, 54, 5, 21, 5, 16, 60, 28, 104, 16, 60, 96]
abbrev dktX1_show_1 : List UInt8 := dkwX1_show_1 ++ dktX1_show_2
def dkwX1_show_0 : List UInt8 := [42, 27, 182, 0, 127, 28, 3, 16, 9, 184, 0, 9, 184, 0, 86, 42, 180, 0, 21, 27, 182, 1, 10, 78]
abbrev dktX1_show_0 : List UInt8 := dkwX1_show_0 ++ dktX1_show_1
theorem dksX1_show_0 : cX1_show.data.toList.drop 0 = dktX1_show_0 := by decide +kernel
theorem dksX1_show_1 : cX1_show.data.toList.drop 24 = dktX1_show_1 := dk_seg dksX1_show_0 24 rfl rfl
theorem dksX1_show_2 : cX1_show.data.toList.drop 48 = dktX1_show_2 := dk_seg dksX1_show_1 24 rfl rfl
theorem dksX1_show_3 : cX1_show.data.toList.drop 70 = dktX1_show_3 := dk_seg dksX1_show_2 22 rfl rfl
theorem dksX1_show_4 : cX1_show.data.toList.drop 94 = dktX1_show_4 := dk_seg dksX1_show_3 24 rfl rfl
theorem dX1_show_0 : decode cX1_show 0 = .ok (.aload_n 0, 1) := dk_42 (dk_at dksX1_show_0 0 rfl rfl)
theorem dX1_show_1 : decode cX1_show 1 = .ok (.iload_n 1, 1) := dk_27 (dk_at dksX1_show_0 1 rfl rfl)
theorem dX1_show_2 : decode cX1_show 2 = .ok (.invokevirtual 127, 3) := dk_182 0 127 (dk_at dksX1_show_0 2 rfl rfl)
theorem dX1_show_5 : decode cX1_show 5 = .ok (.iload_n 2, 1) := dk_28 (dk_at dksX1_show_0 5 rfl rfl)
theorem dX1_show_6 : decode cX1_show 6 = .ok (.iconst 0, 1) := dk_3 (dk_at dksX1_show_0 6 rfl rfl)
theorem dX1_show_7 : decode cX1_show 7 = .ok (.bipush 9, 2) := dk_16 9 (dk_at dksX1_show_0 7 rfl rfl)
theorem dX1_show_9 : decode cX1_show 9 = .ok (.invokestatic 9, 3) := dk_184 0 9 (dk_at dksX1_show_0 9 rfl rfl)
theorem dX1_show_12 : decode cX1_show 12 = .ok (.invokestatic 86, 3) := dk_184 0 86 (dk_at dksX1_show_0 12 rfl rfl)
theorem dX1_show_15 : decode cX1_show 15 = .ok (.aload_n 0, 1) := dk_42 (dk_at dksX1_show_0 15 rfl rfl)
theorem dX1_show_16 : decode cX1_show 16 = .ok (.getfield 21, 3) := dk_180 0 21 (dk_at dksX1_show_0 16 rfl rfl)
theorem dX1_show_19 : decode cX1_show 19 = .ok (.iload_n 1, 1) := dk_27 (dk_at dksX1_show_0 19 rfl rfl)
theorem dX1_show_20 : decode cX1_show 20 = .ok (.invokevirtual 266, 3) := dk_182 1 10 (dk_at dksX1_show_0 20 rfl rfl)
theorem dX1_show_23 : decode cX1_show 23 = .ok (.astore_n 3, 1) := dk_78 (dk_at dksX1_show_0 23 rfl rfl)
theorem dX1_show_24 : decode cX1_show 24 = .ok (.new 32, 3) := dk_187 0 32 (dk_at dksX1_show_1 0 rfl rfl)
theorem dX1_show_27 : decode cX1_show 27 = .ok (.dup, 1) := dk_89 (dk_at dksX1_show_1 3 rfl rfl)
theorem dX1_show_28 : decode cX1_show 28 = .ok (.invokespecial 34, 3) := dk_183 0 34 (dk_at dksX1_show_1 4 rfl rfl)
theorem dX1_show_31 : decode cX1_show 31 = .ok (.astore 4, 2) := dk_58 4 (dk_at dksX1_show_1 7 rfl rfl)
theorem dX1_show_33 : decode cX1_show 33 = .ok (.bipush 60, 2) := dk_16 60 (dk_at dksX1_show_1 9 rfl rfl)
theorem dX1_show_35 : decode cX1_show 35 = .ok (.iload_n 2, 1) := dk_28 (dk_at dksX1_show_1 11 rfl rfl)
theorem dX1_show_36 : decode cX1_show 36 = .ok (.imul, 1) := dk_104 (dk_at dksX1_show_1 12 rfl rfl)
theorem dX1_show_37 : decode cX1_show 37 = .ok (.istore 5, 2) := dk_54 5 (dk_at dksX1_show_1 13 rfl rfl)
theorem dX1_show_39 : decode cX1_show 39 = .ok (.iload 5, 2) := dk_21 5 (dk_at dksX1_show_1 15 rfl rfl)
theorem dX1_show_41 : decode cX1_show 41 = .ok (.bipush 60, 2) := dk_16 60 (dk_at dksX1_show_1 17 rfl rfl)
theorem dX1_show_43 : decode cX1_show 43 = .ok (.iload_n 2, 1) := dk_28 (dk_at dksX1_show_1 19 rfl rfl)
theorem dX1_show_44 : decode cX1_show 44 = .ok (.imul, 1) := dk_104 (dk_at dksX1_show_1 20 rfl rfl)
theorem dX1_show_45 : decode cX1_show 45 = .ok (.bipush 60, 2) := dk_16 60 (dk_at dksX1_show_1 21 rfl rfl)
theorem dX1_show_47 : decode cX1_show 47 = .ok (.iadd, 1) := dk_96 (dk_at dksX1_show_1 23 rfl rfl)
theorem dX1_show_48 : decode cX1_show 48 = .ok (.if_icmp .ge 52, 3) := dk_162 0 52 (dk_at dksX1_show_2 0 rfl rfl)
theorem dX1_show_51 : decode cX1_show 51 = .ok (.aload_n 3, 1) := dk_45 (dk_at dksX1_show_2 3 rfl rfl)
theorem dX1_show_52 : decode cX1_show 52 = .ok (.invokedynamic 368, 5) := by decide +kernel
theorem dX1_show_57 : decode cX1_show 57 = .ok (.iload 5, 2) := dk_21 5 (dk_at dksX1_show_2 9 rfl rfl)
theorem dX1_show_59 : decode cX1_show 59 = .ok (.iconst 5, 1) := dk_8 (dk_at dksX1_show_2 11 rfl rfl)
theorem dX1_show_60 : decode cX1_show 60 = .ok (.invokestatic 273, 3) := dk_184 1 17 (dk_at dksX1_show_2 12 rfl rfl)
theorem dX1_show_63 : decode cX1_show 63 = .ok (.istore 6, 2) := dk_54 6 (dk_at dksX1_show_2 15 rfl rfl)
theorem dX1_show_65 : decode cX1_show 65 = .ok (.aload 4, 2) := dk_25 4 (dk_at dksX1_show_2 17 rfl rfl)
theorem dX1_show_67 : decode cX1_show 67 = .ok (.iload 6, 2) := dk_21 6 (dk_at dksX1_show_2 19 rfl rfl)
theorem dX1_show_69 : decode cX1_show 69 = .ok (.iconst 5, 1) := dk_8 (dk_at dksX1_show_2 21 rfl rfl)
theorem dX1_show_70 : decode cX1_show 70 = .ok (.if_icmp .ne 8, 3) := dk_160 0 8 (dk_at dksX1_show_3 0 rfl rfl)
theorem dX1_show_73 : decode cX1_show 73 = .ok (.bipush 35, 2) := dk_16 35 (dk_at dksX1_show_3 3 rfl rfl)
theorem dX1_show_75 : decode cX1_show 75 = .ok (.goto 15, 3) := dk_167 0 15 (dk_at dksX1_show_3 5 rfl rfl)
theorem dX1_show_78 : decode cX1_show 78 = .ok (.iload 6, 2) := dk_21 6 (dk_at dksX1_show_3 8 rfl rfl)
theorem dX1_show_80 : decode cX1_show 80 = .ok (.ifCond .le 8, 3) := dk_158 0 8 (dk_at dksX1_show_3 10 rfl rfl)
theorem dX1_show_83 : decode cX1_show 83 = .ok (.bipush 43, 2) := dk_16 43 (dk_at dksX1_show_3 13 rfl rfl)
theorem dX1_show_85 : decode cX1_show 85 = .ok (.goto 5, 3) := dk_167 0 5 (dk_at dksX1_show_3 15 rfl rfl)
theorem dX1_show_88 : decode cX1_show 88 = .ok (.bipush 46, 2) := dk_16 46 (dk_at dksX1_show_3 18 rfl rfl)
theorem dX1_show_90 : decode cX1_show 90 = .ok (.invokevirtual 291, 3) := dk_182 1 35 (dk_at dksX1_show_3 20 rfl rfl)
theorem dX1_show_93 : decode cX1_show 93 = .ok (.pop, 1) := dk_87 (dk_at dksX1_show_3 23 rfl rfl)
theorem dX1_show_94 : decode cX1_show 94 = .ok (.iinc 5 5, 3) := dk_132 5 5 (dk_at dksX1_show_4 0 rfl rfl)
theorem dX1_show_97 : decode cX1_show 97 = .ok (.goto (-58), 3) := dk_167 255 198 (dk_at dksX1_show_4 3 rfl rfl)
theorem dX1_show_100 : decode cX1_show 100 = .ok (.aload_n 0, 1) := dk_42 (dk_at dksX1_show_4 6 rfl rfl)
theorem dX1_show_101 : decode cX1_show 101 = .ok (.aload 4, 2) := dk_25 4 (dk_at dksX1_show_4 7 rfl rfl)
theorem dX1_show_103 : decode cX1_show 103 = .ok (.invokevirtual 364, 3) := dk_182 1 108 (dk_at dksX1_show_4 9 rfl rfl)
theorem dX1_show_106 : decode cX1_show 106 = .ok (.ireturn, 1) := dk_172 (dk_at dksX1_show_4 12 rfl rfl)
abbrev cX1_lambda_show_10 : ByteArray := prog_1_method_58_code
def yX1_lambda_show_10 : MethodName := ⟨RX1, "lambda$show$10", "([ZI)Z"⟩
def dkwX1_lambda_show_10_0 : List UInt8 := [42, 27, 51, 172]
abbrev dktX1_lambda_show_10_0 : List UInt8 := dkwX1_lambda_show_10_0 ++ []
theorem dksX1_lambda_show_10_0 : cX1_lambda_show_10.data.toList.drop 0 = dktX1_lambda_show_10_0 := by decide +kernel
theorem dX1_lambda_show_10_0 : decode cX1_lambda_show_10 0 = .ok (.aload_n 0, 1) := dk_42 (dk_at dksX1_lambda_show_10_0 0 rfl rfl)
theorem dX1_lambda_show_10_1 : decode cX1_lambda_show_10 1 = .ok (.iload_n 1, 1) := dk_27 (dk_at dksX1_lambda_show_10_0 1 rfl rfl)
theorem dX1_lambda_show_10_2 : decode cX1_lambda_show_10 2 = .ok (.baload, 1) := dk_51 (dk_at dksX1_lambda_show_10_0 2 rfl rfl)
theorem dX1_lambda_show_10_3 : decode cX1_lambda_show_10 3 = .ok (.ireturn, 1) := dk_172 (dk_at dksX1_lambda_show_10_0 3 rfl rfl)
abbrev cX1_written : ByteArray := prog_1_method_50_code
def yX1_written : MethodName := ⟨RX1, "written", "(I)C"⟩
def dkwX1_written_1 : List UInt8 := [182, 1, 113, 172]
abbrev dktX1_written_1 : List UInt8 := dkwX1_written_1 ++ []
def dkwX1_written_0 : List UInt8 := [27, 3, 42, 180, 0, 45, 182, 1, 93, 4, 100, 184, 0, 9, 184, 0, 209, 42, 180, 0, 45, 27]
abbrev dktX1_written_0 : List UInt8 := dkwX1_written_0 ++ dktX1_written_1
theorem dksX1_written_0 : cX1_written.data.toList.drop 0 = dktX1_written_0 := by decide +kernel
theorem dksX1_written_1 : cX1_written.data.toList.drop 22 = dktX1_written_1 := dk_seg dksX1_written_0 22 rfl rfl
theorem dX1_written_0 : decode cX1_written 0 = .ok (.iload_n 1, 1) := dk_27 (dk_at dksX1_written_0 0 rfl rfl)
theorem dX1_written_1 : decode cX1_written 1 = .ok (.iconst 0, 1) := dk_3 (dk_at dksX1_written_0 1 rfl rfl)
theorem dX1_written_2 : decode cX1_written 2 = .ok (.aload_n 0, 1) := dk_42 (dk_at dksX1_written_0 2 rfl rfl)
theorem dX1_written_3 : decode cX1_written 3 = .ok (.getfield 45, 3) := dk_180 0 45 (dk_at dksX1_written_0 3 rfl rfl)
theorem dX1_written_6 : decode cX1_written 6 = .ok (.invokevirtual 349, 3) := dk_182 1 93 (dk_at dksX1_written_0 6 rfl rfl)
theorem dX1_written_9 : decode cX1_written 9 = .ok (.iconst 1, 1) := dk_4 (dk_at dksX1_written_0 9 rfl rfl)
theorem dX1_written_10 : decode cX1_written 10 = .ok (.isub, 1) := dk_100 (dk_at dksX1_written_0 10 rfl rfl)
theorem dX1_written_11 : decode cX1_written 11 = .ok (.invokestatic 9, 3) := dk_184 0 9 (dk_at dksX1_written_0 11 rfl rfl)
theorem dX1_written_14 : decode cX1_written 14 = .ok (.invokestatic 209, 3) := dk_184 0 209 (dk_at dksX1_written_0 14 rfl rfl)
theorem dX1_written_17 : decode cX1_written 17 = .ok (.aload_n 0, 1) := dk_42 (dk_at dksX1_written_0 17 rfl rfl)
theorem dX1_written_18 : decode cX1_written 18 = .ok (.getfield 45, 3) := dk_180 0 45 (dk_at dksX1_written_0 18 rfl rfl)
theorem dX1_written_21 : decode cX1_written 21 = .ok (.iload_n 1, 1) := dk_27 (dk_at dksX1_written_0 21 rfl rfl)
theorem dX1_written_22 : decode cX1_written 22 = .ok (.invokevirtual 369, 3) := dk_182 1 113 (dk_at dksX1_written_1 0 rfl rfl)
theorem dX1_written_25 : decode cX1_written 25 = .ok (.ireturn, 1) := dk_172 (dk_at dksX1_written_1 3 rfl rfl)
abbrev cX1_account : ByteArray := prog_1_method_51_code
def yX1_account : MethodName := ⟨RX1, "account", "(I)I"⟩
def dkwX1_account_7 : List UInt8 := [187, 0, 49, 89, 183, 0, 51, 191, 172]
abbrev dktX1_account_7 : List UInt8 := dkwX1_account_7 ++ []
def dkwX1_account_6 : List UInt8 := [167, 0, 31, 42, 180, 0, 35, 182, 1, 29, 167, 0, 21, 42, 180, 0, 28, 182, 0, 90, 167, 0, 11]
abbrev dktX1_account_6 : List UInt8 := dkwX1_account_6 ++ dktX1_account_7
def dkwX1_account_5 : List UInt8 := [100, 182, 1, 117, 167, 0, 51, 42, 180, 0, 21, 182, 1, 123, 167, 0, 41, 42, 180, 0, 21, 182, 1, 126]
abbrev dktX1_account_5 : List UInt8 := dkwX1_account_5 ++ dktX1_account_6
def dkwX1_account_4 : List UInt8 := [185, 0, 73, 1, 0, 167, 0, 74, 42, 180, 0, 21, 182, 1, 120, 167, 0, 64, 42, 180, 0, 21, 27, 7]
abbrev dktX1_account_4 : List UInt8 := dkwX1_account_4 ++ dktX1_account_5
def dkwX1_account_3 : List UInt8 := [167, 0, 100, 42, 180, 0, 21, 3, 182, 1, 117, 167, 0, 89, 42, 180, 0, 21, 182, 0, 186]
abbrev dktX1_account_3 : List UInt8 := dkwX1_account_3 ++ dktX1_account_4
def dkwX1_account_2 : List UInt8 := [42, 180, 0, 21, 182, 0, 61, 167, 0, 115, 42, 180, 0, 21, 182, 0, 69, 185, 0, 73, 1, 0]
abbrev dktX1_account_2 : List UInt8 := dkwX1_account_2 ++ dktX1_account_3
def dkwX1_account_1 : List UInt8 := [170, 0, 0, 0, 0, 0, 173, 0, 0, 0, 0, 0, 0, 0, 10, 0, 0, 0, 59, 0, 0, 0, 69, 0, 0, 0, 84, 0, 0, 0, 95, 0, 0, 0, 110, 0, 0, 0, 120, 0, 0, 0, 120, 0, 0, 0, 133, 0, 0, 0, 143, 0, 0, 0, 153, 0, 0, 0, 163]
abbrev dktX1_account_1 : List UInt8 := dkwX1_account_1 ++ dktX1_account_2
def dkwX1_account_0 : List UInt8 := [27]
abbrev dktX1_account_0 : List UInt8 := dkwX1_account_0 ++ dktX1_account_1
theorem dksX1_account_0 : cX1_account.data.toList.drop 0 = dktX1_account_0 := by decide +kernel
theorem dksX1_account_1 : cX1_account.data.toList.drop 1 = dktX1_account_1 := dk_seg dksX1_account_0 1 rfl rfl
theorem dksX1_account_2 : cX1_account.data.toList.drop 60 = dktX1_account_2 := dk_seg dksX1_account_1 59 rfl rfl
theorem dksX1_account_3 : cX1_account.data.toList.drop 82 = dktX1_account_3 := dk_seg dksX1_account_2 22 rfl rfl
theorem dksX1_account_4 : cX1_account.data.toList.drop 103 = dktX1_account_4 := dk_seg dksX1_account_3 21 rfl rfl
theorem dksX1_account_5 : cX1_account.data.toList.drop 127 = dktX1_account_5 := dk_seg dksX1_account_4 24 rfl rfl
theorem dksX1_account_6 : cX1_account.data.toList.drop 151 = dktX1_account_6 := dk_seg dksX1_account_5 24 rfl rfl
theorem dksX1_account_7 : cX1_account.data.toList.drop 174 = dktX1_account_7 := dk_seg dksX1_account_6 23 rfl rfl
theorem dX1_account_0 : decode cX1_account 0 = .ok (.iload_n 1, 1) := dk_27 (dk_at dksX1_account_0 0 rfl rfl)
theorem dX1_account_1 : decode cX1_account 1 = .ok (.tableswitch 173 0 10 #[59, 69, 84, 95, 110, 120, 120, 133, 143, 153, 163], 59) := by decide +kernel
theorem dX1_account_60 : decode cX1_account 60 = .ok (.aload_n 0, 1) := dk_42 (dk_at dksX1_account_2 0 rfl rfl)
theorem dX1_account_61 : decode cX1_account 61 = .ok (.getfield 21, 3) := dk_180 0 21 (dk_at dksX1_account_2 1 rfl rfl)
theorem dX1_account_64 : decode cX1_account 64 = .ok (.invokevirtual 61, 3) := dk_182 0 61 (dk_at dksX1_account_2 4 rfl rfl)
theorem dX1_account_67 : decode cX1_account 67 = .ok (.goto 115, 3) := dk_167 0 115 (dk_at dksX1_account_2 7 rfl rfl)
theorem dX1_account_70 : decode cX1_account 70 = .ok (.aload_n 0, 1) := dk_42 (dk_at dksX1_account_2 10 rfl rfl)
theorem dX1_account_71 : decode cX1_account 71 = .ok (.getfield 21, 3) := dk_180 0 21 (dk_at dksX1_account_2 11 rfl rfl)
theorem dX1_account_74 : decode cX1_account 74 = .ok (.invokevirtual 69, 3) := dk_182 0 69 (dk_at dksX1_account_2 14 rfl rfl)
theorem dX1_account_77 : decode cX1_account 77 = .ok (.invokeinterface 73 1, 5) := by decide +kernel
theorem dX1_account_82 : decode cX1_account 82 = .ok (.goto 100, 3) := dk_167 0 100 (dk_at dksX1_account_3 0 rfl rfl)
theorem dX1_account_85 : decode cX1_account 85 = .ok (.aload_n 0, 1) := dk_42 (dk_at dksX1_account_3 3 rfl rfl)
theorem dX1_account_86 : decode cX1_account 86 = .ok (.getfield 21, 3) := dk_180 0 21 (dk_at dksX1_account_3 4 rfl rfl)
theorem dX1_account_89 : decode cX1_account 89 = .ok (.iconst 0, 1) := dk_3 (dk_at dksX1_account_3 7 rfl rfl)
theorem dX1_account_90 : decode cX1_account 90 = .ok (.invokevirtual 373, 3) := dk_182 1 117 (dk_at dksX1_account_3 8 rfl rfl)
theorem dX1_account_93 : decode cX1_account 93 = .ok (.goto 89, 3) := dk_167 0 89 (dk_at dksX1_account_3 11 rfl rfl)
theorem dX1_account_96 : decode cX1_account 96 = .ok (.aload_n 0, 1) := dk_42 (dk_at dksX1_account_3 14 rfl rfl)
theorem dX1_account_97 : decode cX1_account 97 = .ok (.getfield 21, 3) := dk_180 0 21 (dk_at dksX1_account_3 15 rfl rfl)
theorem dX1_account_100 : decode cX1_account 100 = .ok (.invokevirtual 186, 3) := dk_182 0 186 (dk_at dksX1_account_3 18 rfl rfl)
theorem dX1_account_103 : decode cX1_account 103 = .ok (.invokeinterface 73 1, 5) := by decide +kernel
theorem dX1_account_108 : decode cX1_account 108 = .ok (.goto 74, 3) := dk_167 0 74 (dk_at dksX1_account_4 5 rfl rfl)
theorem dX1_account_111 : decode cX1_account 111 = .ok (.aload_n 0, 1) := dk_42 (dk_at dksX1_account_4 8 rfl rfl)
theorem dX1_account_112 : decode cX1_account 112 = .ok (.getfield 21, 3) := dk_180 0 21 (dk_at dksX1_account_4 9 rfl rfl)
theorem dX1_account_115 : decode cX1_account 115 = .ok (.invokevirtual 376, 3) := dk_182 1 120 (dk_at dksX1_account_4 12 rfl rfl)
theorem dX1_account_118 : decode cX1_account 118 = .ok (.goto 64, 3) := dk_167 0 64 (dk_at dksX1_account_4 15 rfl rfl)
theorem dX1_account_121 : decode cX1_account 121 = .ok (.aload_n 0, 1) := dk_42 (dk_at dksX1_account_4 18 rfl rfl)
theorem dX1_account_122 : decode cX1_account 122 = .ok (.getfield 21, 3) := dk_180 0 21 (dk_at dksX1_account_4 19 rfl rfl)
theorem dX1_account_125 : decode cX1_account 125 = .ok (.iload_n 1, 1) := dk_27 (dk_at dksX1_account_4 22 rfl rfl)
theorem dX1_account_126 : decode cX1_account 126 = .ok (.iconst 4, 1) := dk_7 (dk_at dksX1_account_4 23 rfl rfl)
theorem dX1_account_127 : decode cX1_account 127 = .ok (.isub, 1) := dk_100 (dk_at dksX1_account_5 0 rfl rfl)
theorem dX1_account_128 : decode cX1_account 128 = .ok (.invokevirtual 373, 3) := dk_182 1 117 (dk_at dksX1_account_5 1 rfl rfl)
theorem dX1_account_131 : decode cX1_account 131 = .ok (.goto 51, 3) := dk_167 0 51 (dk_at dksX1_account_5 4 rfl rfl)
theorem dX1_account_134 : decode cX1_account 134 = .ok (.aload_n 0, 1) := dk_42 (dk_at dksX1_account_5 7 rfl rfl)
theorem dX1_account_135 : decode cX1_account 135 = .ok (.getfield 21, 3) := dk_180 0 21 (dk_at dksX1_account_5 8 rfl rfl)
theorem dX1_account_138 : decode cX1_account 138 = .ok (.invokevirtual 379, 3) := dk_182 1 123 (dk_at dksX1_account_5 11 rfl rfl)
theorem dX1_account_141 : decode cX1_account 141 = .ok (.goto 41, 3) := dk_167 0 41 (dk_at dksX1_account_5 14 rfl rfl)
theorem dX1_account_144 : decode cX1_account 144 = .ok (.aload_n 0, 1) := dk_42 (dk_at dksX1_account_5 17 rfl rfl)
theorem dX1_account_145 : decode cX1_account 145 = .ok (.getfield 21, 3) := dk_180 0 21 (dk_at dksX1_account_5 18 rfl rfl)
theorem dX1_account_148 : decode cX1_account 148 = .ok (.invokevirtual 382, 3) := dk_182 1 126 (dk_at dksX1_account_5 21 rfl rfl)
theorem dX1_account_151 : decode cX1_account 151 = .ok (.goto 31, 3) := dk_167 0 31 (dk_at dksX1_account_6 0 rfl rfl)
theorem dX1_account_154 : decode cX1_account 154 = .ok (.aload_n 0, 1) := dk_42 (dk_at dksX1_account_6 3 rfl rfl)
theorem dX1_account_155 : decode cX1_account 155 = .ok (.getfield 35, 3) := dk_180 0 35 (dk_at dksX1_account_6 4 rfl rfl)
theorem dX1_account_158 : decode cX1_account 158 = .ok (.invokevirtual 285, 3) := dk_182 1 29 (dk_at dksX1_account_6 7 rfl rfl)
theorem dX1_account_161 : decode cX1_account 161 = .ok (.goto 21, 3) := dk_167 0 21 (dk_at dksX1_account_6 10 rfl rfl)
theorem dX1_account_164 : decode cX1_account 164 = .ok (.aload_n 0, 1) := dk_42 (dk_at dksX1_account_6 13 rfl rfl)
theorem dX1_account_165 : decode cX1_account 165 = .ok (.getfield 28, 3) := dk_180 0 28 (dk_at dksX1_account_6 14 rfl rfl)
theorem dX1_account_168 : decode cX1_account 168 = .ok (.invokevirtual 90, 3) := dk_182 0 90 (dk_at dksX1_account_6 17 rfl rfl)
theorem dX1_account_171 : decode cX1_account 171 = .ok (.goto 11, 3) := dk_167 0 11 (dk_at dksX1_account_6 20 rfl rfl)
theorem dX1_account_174 : decode cX1_account 174 = .ok (.new 49, 3) := dk_187 0 49 (dk_at dksX1_account_7 0 rfl rfl)
theorem dX1_account_177 : decode cX1_account 177 = .ok (.dup, 1) := dk_89 (dk_at dksX1_account_7 3 rfl rfl)
theorem dX1_account_178 : decode cX1_account 178 = .ok (.invokespecial 51, 3) := dk_183 0 51 (dk_at dksX1_account_7 4 rfl rfl)
theorem dX1_account_181 : decode cX1_account 181 = .ok (.athrow, 1) := dk_191 (dk_at dksX1_account_7 7 rfl rfl)
theorem dX1_account_182 : decode cX1_account 182 = .ok (.ireturn, 1) := dk_172 (dk_at dksX1_account_7 8 rfl rfl)
abbrev cX1_meanLength : ByteArray := prog_1_method_53_code
def yX1_meanLength : MethodName := ⟨RX1, "meanLength", "()D"⟩
def dkwX1_meanLength_1 : List UInt8 := [180, 0, 21, 4, 182, 1, 117, 135, 27, 135, 111, 175]
abbrev dktX1_meanLength_1 : List UInt8 := dkwX1_meanLength_1 ++ []
def dkwX1_meanLength_0 : List UInt8 := [42, 180, 0, 21, 3, 182, 1, 117, 60, 27, 154, 0, 11, 187, 1, 132, 89, 183, 1, 134, 191, 42]
abbrev dktX1_meanLength_0 : List UInt8 := dkwX1_meanLength_0 ++ dktX1_meanLength_1
theorem dksX1_meanLength_0 : cX1_meanLength.data.toList.drop 0 = dktX1_meanLength_0 := by decide +kernel
theorem dksX1_meanLength_1 : cX1_meanLength.data.toList.drop 22 = dktX1_meanLength_1 := dk_seg dksX1_meanLength_0 22 rfl rfl
theorem dX1_meanLength_0 : decode cX1_meanLength 0 = .ok (.aload_n 0, 1) := dk_42 (dk_at dksX1_meanLength_0 0 rfl rfl)
theorem dX1_meanLength_1 : decode cX1_meanLength 1 = .ok (.getfield 21, 3) := dk_180 0 21 (dk_at dksX1_meanLength_0 1 rfl rfl)
theorem dX1_meanLength_4 : decode cX1_meanLength 4 = .ok (.iconst 0, 1) := dk_3 (dk_at dksX1_meanLength_0 4 rfl rfl)
theorem dX1_meanLength_5 : decode cX1_meanLength 5 = .ok (.invokevirtual 373, 3) := dk_182 1 117 (dk_at dksX1_meanLength_0 5 rfl rfl)
theorem dX1_meanLength_8 : decode cX1_meanLength 8 = .ok (.istore_n 1, 1) := dk_60 (dk_at dksX1_meanLength_0 8 rfl rfl)
theorem dX1_meanLength_9 : decode cX1_meanLength 9 = .ok (.iload_n 1, 1) := dk_27 (dk_at dksX1_meanLength_0 9 rfl rfl)
theorem dX1_meanLength_10 : decode cX1_meanLength 10 = .ok (.ifCond .ne 11, 3) := dk_154 0 11 (dk_at dksX1_meanLength_0 10 rfl rfl)
theorem dX1_meanLength_13 : decode cX1_meanLength 13 = .ok (.new 388, 3) := dk_187 1 132 (dk_at dksX1_meanLength_0 13 rfl rfl)
theorem dX1_meanLength_16 : decode cX1_meanLength 16 = .ok (.dup, 1) := dk_89 (dk_at dksX1_meanLength_0 16 rfl rfl)
theorem dX1_meanLength_17 : decode cX1_meanLength 17 = .ok (.invokespecial 390, 3) := dk_183 1 134 (dk_at dksX1_meanLength_0 17 rfl rfl)
theorem dX1_meanLength_20 : decode cX1_meanLength 20 = .ok (.athrow, 1) := dk_191 (dk_at dksX1_meanLength_0 20 rfl rfl)
theorem dX1_meanLength_21 : decode cX1_meanLength 21 = .ok (.aload_n 0, 1) := dk_42 (dk_at dksX1_meanLength_0 21 rfl rfl)
theorem dX1_meanLength_22 : decode cX1_meanLength 22 = .ok (.getfield 21, 3) := dk_180 0 21 (dk_at dksX1_meanLength_1 0 rfl rfl)
theorem dX1_meanLength_25 : decode cX1_meanLength 25 = .ok (.iconst 1, 1) := dk_4 (dk_at dksX1_meanLength_1 3 rfl rfl)
theorem dX1_meanLength_26 : decode cX1_meanLength 26 = .ok (.invokevirtual 373, 3) := dk_182 1 117 (dk_at dksX1_meanLength_1 4 rfl rfl)
theorem dX1_meanLength_29 : decode cX1_meanLength 29 = .ok (.i2d, 1) := dk_135 (dk_at dksX1_meanLength_1 7 rfl rfl)
theorem dX1_meanLength_30 : decode cX1_meanLength 30 = .ok (.iload_n 1, 1) := dk_27 (dk_at dksX1_meanLength_1 8 rfl rfl)
theorem dX1_meanLength_31 : decode cX1_meanLength 31 = .ok (.i2d, 1) := dk_135 (dk_at dksX1_meanLength_1 9 rfl rfl)
theorem dX1_meanLength_32 : decode cX1_meanLength 32 = .ok (.ddiv, 1) := dk_111 (dk_at dksX1_meanLength_1 10 rfl rfl)
theorem dX1_meanLength_33 : decode cX1_meanLength 33 = .ok (.dreturn, 1) := dk_175 (dk_at dksX1_meanLength_1 11 rfl rfl)
abbrev cX1_letShare : ByteArray := prog_1_method_54_code
def yX1_letShare : MethodName := ⟨RX1, "letShare", "(I)F"⟩
def dkwX1_letShare_0 : List UInt8 := [42, 27, 182, 0, 127, 42, 180, 0, 21, 27, 4, 182, 0, 224, 134, 19, 1, 135, 110, 174]
abbrev dktX1_letShare_0 : List UInt8 := dkwX1_letShare_0 ++ []
theorem dksX1_letShare_0 : cX1_letShare.data.toList.drop 0 = dktX1_letShare_0 := by decide +kernel
theorem dX1_letShare_0 : decode cX1_letShare 0 = .ok (.aload_n 0, 1) := dk_42 (dk_at dksX1_letShare_0 0 rfl rfl)
theorem dX1_letShare_1 : decode cX1_letShare 1 = .ok (.iload_n 1, 1) := dk_27 (dk_at dksX1_letShare_0 1 rfl rfl)
theorem dX1_letShare_2 : decode cX1_letShare 2 = .ok (.invokevirtual 127, 3) := dk_182 0 127 (dk_at dksX1_letShare_0 2 rfl rfl)
theorem dX1_letShare_5 : decode cX1_letShare 5 = .ok (.aload_n 0, 1) := dk_42 (dk_at dksX1_letShare_0 5 rfl rfl)
theorem dX1_letShare_6 : decode cX1_letShare 6 = .ok (.getfield 21, 3) := dk_180 0 21 (dk_at dksX1_letShare_0 6 rfl rfl)
theorem dX1_letShare_9 : decode cX1_letShare 9 = .ok (.iload_n 1, 1) := dk_27 (dk_at dksX1_letShare_0 9 rfl rfl)
theorem dX1_letShare_10 : decode cX1_letShare 10 = .ok (.iconst 1, 1) := dk_4 (dk_at dksX1_letShare_0 10 rfl rfl)
theorem dX1_letShare_11 : decode cX1_letShare 11 = .ok (.invokevirtual 224, 3) := dk_182 0 224 (dk_at dksX1_letShare_0 11 rfl rfl)
theorem dX1_letShare_14 : decode cX1_letShare 14 = .ok (.i2f, 1) := dk_134 (dk_at dksX1_letShare_0 14 rfl rfl)
theorem dX1_letShare_15 : decode cX1_letShare 15 = .ok (.ldc_w 391, 3) := dk_19 1 135 (dk_at dksX1_letShare_0 15 rfl rfl)
theorem dX1_letShare_18 : decode cX1_letShare 18 = .ok (.fdiv, 1) := dk_110 (dk_at dksX1_letShare_0 18 rfl rfl)
theorem dX1_letShare_19 : decode cX1_letShare 19 = .ok (.freturn, 1) := dk_174 (dk_at dksX1_letShare_0 19 rfl rfl)
abbrev cX1_undo : ByteArray := prog_1_method_55_code
def yX1_undo : MethodName := ⟨RX1, "undo", "()I"⟩
def dkwX1_undo_1 : List UInt8 := [182, 1, 137, 192, 0, 18, 181, 0, 21, 42, 180, 0, 28, 182, 0, 90, 172]
abbrev dktX1_undo_1 : List UInt8 := dkwX1_undo_1 ++ []
def dkwX1_undo_0 : List UInt8 := [42, 180, 0, 28, 182, 1, 136, 154, 0, 7, 4, 167, 0, 4, 3, 184, 1, 32, 42, 42, 180, 0, 28]
abbrev dktX1_undo_0 : List UInt8 := dkwX1_undo_0 ++ dktX1_undo_1
theorem dksX1_undo_0 : cX1_undo.data.toList.drop 0 = dktX1_undo_0 := by decide +kernel
theorem dksX1_undo_1 : cX1_undo.data.toList.drop 23 = dktX1_undo_1 := dk_seg dksX1_undo_0 23 rfl rfl
theorem dX1_undo_0 : decode cX1_undo 0 = .ok (.aload_n 0, 1) := dk_42 (dk_at dksX1_undo_0 0 rfl rfl)
theorem dX1_undo_1 : decode cX1_undo 1 = .ok (.getfield 28, 3) := dk_180 0 28 (dk_at dksX1_undo_0 1 rfl rfl)
theorem dX1_undo_4 : decode cX1_undo 4 = .ok (.invokevirtual 392, 3) := dk_182 1 136 (dk_at dksX1_undo_0 4 rfl rfl)
theorem dX1_undo_7 : decode cX1_undo 7 = .ok (.ifCond .ne 7, 3) := dk_154 0 7 (dk_at dksX1_undo_0 7 rfl rfl)
theorem dX1_undo_10 : decode cX1_undo 10 = .ok (.iconst 1, 1) := dk_4 (dk_at dksX1_undo_0 10 rfl rfl)
theorem dX1_undo_11 : decode cX1_undo 11 = .ok (.goto 4, 3) := dk_167 0 4 (dk_at dksX1_undo_0 11 rfl rfl)
theorem dX1_undo_14 : decode cX1_undo 14 = .ok (.iconst 0, 1) := dk_3 (dk_at dksX1_undo_0 14 rfl rfl)
theorem dX1_undo_15 : decode cX1_undo 15 = .ok (.invokestatic 288, 3) := dk_184 1 32 (dk_at dksX1_undo_0 15 rfl rfl)
theorem dX1_undo_18 : decode cX1_undo 18 = .ok (.aload_n 0, 1) := dk_42 (dk_at dksX1_undo_0 18 rfl rfl)
theorem dX1_undo_19 : decode cX1_undo 19 = .ok (.aload_n 0, 1) := dk_42 (dk_at dksX1_undo_0 19 rfl rfl)
theorem dX1_undo_20 : decode cX1_undo 20 = .ok (.getfield 28, 3) := dk_180 0 28 (dk_at dksX1_undo_0 20 rfl rfl)
theorem dX1_undo_23 : decode cX1_undo 23 = .ok (.invokevirtual 393, 3) := dk_182 1 137 (dk_at dksX1_undo_1 0 rfl rfl)
theorem dX1_undo_26 : decode cX1_undo 26 = .ok (.checkcast 18, 3) := dk_192 0 18 (dk_at dksX1_undo_1 3 rfl rfl)
theorem dX1_undo_29 : decode cX1_undo 29 = .ok (.putfield 21, 3) := dk_181 0 21 (dk_at dksX1_undo_1 6 rfl rfl)
theorem dX1_undo_32 : decode cX1_undo 32 = .ok (.aload_n 0, 1) := dk_42 (dk_at dksX1_undo_1 9 rfl rfl)
theorem dX1_undo_33 : decode cX1_undo 33 = .ok (.getfield 28, 3) := dk_180 0 28 (dk_at dksX1_undo_1 10 rfl rfl)
theorem dX1_undo_36 : decode cX1_undo 36 = .ok (.invokevirtual 90, 3) := dk_182 0 90 (dk_at dksX1_undo_1 13 rfl rfl)
theorem dX1_undo_39 : decode cX1_undo 39 = .ok (.ireturn, 1) := dk_172 (dk_at dksX1_undo_1 16 rfl rfl)
abbrev cX1_restore : ByteArray := prog_1_method_57_code
def yX1_restore : MethodName := ⟨RX1, "restore", "()I"⟩
def dkwX1_restore_1 : List UInt8 := [180, 0, 28, 182, 1, 143, 42, 180, 0, 21, 3, 182, 1, 117, 172]
abbrev dktX1_restore_1 : List UInt8 := dkwX1_restore_1 ++ []
def dkwX1_restore_0 : List UInt8 := [42, 180, 1, 140, 198, 0, 7, 4, 167, 0, 4, 3, 184, 1, 32, 42, 42, 180, 1, 140, 181, 0, 21, 42]
abbrev dktX1_restore_0 : List UInt8 := dkwX1_restore_0 ++ dktX1_restore_1
theorem dksX1_restore_0 : cX1_restore.data.toList.drop 0 = dktX1_restore_0 := by decide +kernel
theorem dksX1_restore_1 : cX1_restore.data.toList.drop 24 = dktX1_restore_1 := dk_seg dksX1_restore_0 24 rfl rfl
theorem dX1_restore_0 : decode cX1_restore 0 = .ok (.aload_n 0, 1) := dk_42 (dk_at dksX1_restore_0 0 rfl rfl)
theorem dX1_restore_1 : decode cX1_restore 1 = .ok (.getfield 396, 3) := dk_180 1 140 (dk_at dksX1_restore_0 1 rfl rfl)
theorem dX1_restore_4 : decode cX1_restore 4 = .ok (.ifnull 7, 3) := dk_198 0 7 (dk_at dksX1_restore_0 4 rfl rfl)
theorem dX1_restore_7 : decode cX1_restore 7 = .ok (.iconst 1, 1) := dk_4 (dk_at dksX1_restore_0 7 rfl rfl)
theorem dX1_restore_8 : decode cX1_restore 8 = .ok (.goto 4, 3) := dk_167 0 4 (dk_at dksX1_restore_0 8 rfl rfl)
theorem dX1_restore_11 : decode cX1_restore 11 = .ok (.iconst 0, 1) := dk_3 (dk_at dksX1_restore_0 11 rfl rfl)
theorem dX1_restore_12 : decode cX1_restore 12 = .ok (.invokestatic 288, 3) := dk_184 1 32 (dk_at dksX1_restore_0 12 rfl rfl)
theorem dX1_restore_15 : decode cX1_restore 15 = .ok (.aload_n 0, 1) := dk_42 (dk_at dksX1_restore_0 15 rfl rfl)
theorem dX1_restore_16 : decode cX1_restore 16 = .ok (.aload_n 0, 1) := dk_42 (dk_at dksX1_restore_0 16 rfl rfl)
theorem dX1_restore_17 : decode cX1_restore 17 = .ok (.getfield 396, 3) := dk_180 1 140 (dk_at dksX1_restore_0 17 rfl rfl)
theorem dX1_restore_20 : decode cX1_restore 20 = .ok (.putfield 21, 3) := dk_181 0 21 (dk_at dksX1_restore_0 20 rfl rfl)
theorem dX1_restore_23 : decode cX1_restore 23 = .ok (.aload_n 0, 1) := dk_42 (dk_at dksX1_restore_0 23 rfl rfl)
theorem dX1_restore_24 : decode cX1_restore 24 = .ok (.getfield 28, 3) := dk_180 0 28 (dk_at dksX1_restore_1 0 rfl rfl)
theorem dX1_restore_27 : decode cX1_restore 27 = .ok (.invokevirtual 399, 3) := dk_182 1 143 (dk_at dksX1_restore_1 3 rfl rfl)
theorem dX1_restore_30 : decode cX1_restore 30 = .ok (.aload_n 0, 1) := dk_42 (dk_at dksX1_restore_1 6 rfl rfl)
theorem dX1_restore_31 : decode cX1_restore 31 = .ok (.getfield 21, 3) := dk_180 0 21 (dk_at dksX1_restore_1 7 rfl rfl)
theorem dX1_restore_34 : decode cX1_restore 34 = .ok (.iconst 0, 1) := dk_3 (dk_at dksX1_restore_1 10 rfl rfl)
theorem dX1_restore_35 : decode cX1_restore 35 = .ok (.invokevirtual 373, 3) := dk_182 1 117 (dk_at dksX1_restore_1 11 rfl rfl)
theorem dX1_restore_38 : decode cX1_restore 38 = .ok (.ireturn, 1) := dk_172 (dk_at dksX1_restore_1 14 rfl rfl)
theorem q101 : (Jvm.Cond.initialized "BoxSpans") ∈ lw_all := lw_g (lw_at lw_m1 1 rfl) rfl
theorem q151 : (Jvm.Cond.instantiable "BoxSpans" (7 : Nat)) ∈ lw_all := lw_g (lw_at lw_m1 51 rfl) rfl
theorem q153 : (Jvm.Cond.instanceMethod ({ cls := "BoxSpans", name := "<init>", desc := "()V" } : Jvm.MethodName)) ∈ lw_all := lw_g (lw_at lw_m1 53 rfl) rfl
theorem q154 : (Jvm.Cond.code ({ cls := "BoxSpans", name := "<init>", desc := "()V" } : Jvm.MethodName) prog_1_method_5_code (1 : Nat) (Option.none : Option Jvm.ClassFile.FieldType)) ∈ lw_all := lw_g (lw_at lw_m1 54 rfl) rfl
theorem q155 : (Jvm.Cond.methodLink "BoxSpans" (13 : Nat) ({ cls := "java/lang/Object", name := "<init>", desc := "()V" } : Jvm.MethodName)) ∈ lw_all := lw_g (lw_at lw_m1 55 rfl) rfl
theorem q158 : (Jvm.Cond.classLink "BoxSpans" (18 : Nat) "BoxSpans$Theatre") ∈ lw_all := lw_g (lw_at lw_m1 58 rfl) rfl
theorem q160 : (Jvm.Cond.methodLinkNest "BoxSpans" (20 : Nat) ({ cls := "BoxSpans$Theatre", name := "<init>", desc := "()V" } : Jvm.MethodName) "BoxSpans") ∈ lw_tbl := lw_at lw_m1 60 rfl
theorem q216 : (Jvm.Cond.classLink "BoxSpans" (25 : Nat) "java/util/LinkedList") ∈ lw_all := lw_g (lw_at lw_m1 116 rfl) rfl
theorem q218 : (Jvm.Cond.methodLink "BoxSpans" (27 : Nat) ({ cls := "java/util/LinkedList", name := "<init>", desc := "()V" } : Jvm.MethodName)) ∈ lw_all := lw_g (lw_at lw_m1 118 rfl) rfl
theorem q237 : (Jvm.Cond.classLink "BoxSpans" (32 : Nat) "java/lang/StringBuilder") ∈ lw_all := lw_g (lw_at lw_m1 137 rfl) rfl
theorem q239 : (Jvm.Cond.methodLink "BoxSpans" (34 : Nat) ({ cls := "java/lang/StringBuilder", name := "<init>", desc := "()V" } : Jvm.MethodName)) ∈ lw_all := lw_g (lw_at lw_m1 139 rfl) rfl
theorem q270 : (Jvm.Cond.stringRef "BoxSpans" (43 : Nat) "") ∈ lw_tbl := lw_at lw_m1 170 rfl
theorem q271 : (Jvm.Cond.fieldLink "BoxSpans" (21 : Nat) "BoxSpans" "theatre" "LBoxSpans$Theatre;") ∈ lw_all := lw_g (lw_at lw_m1 171 rfl) rfl
theorem q272 : (Jvm.Cond.fieldLink "BoxSpans" (396 : Nat) "BoxSpans" "saved" "LBoxSpans$Theatre;") ∈ lw_all := lw_g (lw_at lw_m1 172 rfl) rfl
theorem q273 : (Jvm.Cond.fieldLink "BoxSpans" (28 : Nat) "BoxSpans" "past" "Ljava/util/LinkedList;") ∈ lw_all := lw_g (lw_at lw_m1 173 rfl) rfl
theorem q274 : (Jvm.Cond.fieldLink "BoxSpans" (35 : Nat) "BoxSpans" "buffer" "Ljava/lang/StringBuilder;") ∈ lw_all := lw_g (lw_at lw_m1 174 rfl) rfl
theorem q275 : (Jvm.Cond.fieldLink "BoxSpans" (39 : Nat) "BoxSpans" "error" "I") ∈ lw_all := lw_g (lw_at lw_m1 175 rfl) rfl
theorem q276 : (Jvm.Cond.fieldLink "BoxSpans" (113 : Nat) "BoxSpans" "refused" "LBoxSpans$Refusal;") ∈ lw_all := lw_g (lw_at lw_m1 176 rfl) rfl
theorem q277 : (Jvm.Cond.fieldLink "BoxSpans" (45 : Nat) "BoxSpans" "line" "Ljava/lang/String;") ∈ lw_all := lw_g (lw_at lw_m1 177 rfl) rfl
theorem q278 : (Jvm.Cond.lays "BoxSpans" "BoxSpans" "theatre" "LBoxSpans$Theatre;") ∈ lw_all := lw_g (lw_at lw_m1 178 rfl) rfl
theorem q279 : (Jvm.Cond.soleField "BoxSpans" "theatre") ∈ lw_all := lw_g (lw_at lw_m1 179 rfl) rfl
theorem q280 : (Jvm.Cond.lays "BoxSpans" "BoxSpans" "saved" "LBoxSpans$Theatre;") ∈ lw_all := lw_g (lw_at lw_m1 180 rfl) rfl
theorem q281 : (Jvm.Cond.soleField "BoxSpans" "saved") ∈ lw_all := lw_g (lw_at lw_m1 181 rfl) rfl
theorem q282 : (Jvm.Cond.laysFinal "BoxSpans" "BoxSpans" "past" "Ljava/util/LinkedList;") ∈ lw_all := lw_g (lw_at lw_m1 182 rfl) rfl
theorem q283 : (Jvm.Cond.soleField "BoxSpans" "past") ∈ lw_all := lw_g (lw_at lw_m1 183 rfl) rfl
theorem q284 : (Jvm.Cond.laysFinal "BoxSpans" "BoxSpans" "buffer" "Ljava/lang/StringBuilder;") ∈ lw_all := lw_g (lw_at lw_m1 184 rfl) rfl
theorem q285 : (Jvm.Cond.soleField "BoxSpans" "buffer") ∈ lw_all := lw_g (lw_at lw_m1 185 rfl) rfl
theorem q286 : (Jvm.Cond.lays "BoxSpans" "BoxSpans" "error" "I") ∈ lw_all := lw_g (lw_at lw_m1 186 rfl) rfl
theorem q287 : (Jvm.Cond.soleField "BoxSpans" "error") ∈ lw_all := lw_g (lw_at lw_m1 187 rfl) rfl
theorem q288 : (Jvm.Cond.lays "BoxSpans" "BoxSpans" "refused" "LBoxSpans$Refusal;") ∈ lw_all := lw_g (lw_at lw_m1 188 rfl) rfl
theorem q289 : (Jvm.Cond.soleField "BoxSpans" "refused") ∈ lw_all := lw_g (lw_at lw_m1 189 rfl) rfl
theorem q290 : (Jvm.Cond.lays "BoxSpans" "BoxSpans" "line" "Ljava/lang/String;") ∈ lw_all := lw_g (lw_at lw_m1 190 rfl) rfl
theorem q291 : (Jvm.Cond.soleField "BoxSpans" "line") ∈ lw_all := lw_g (lw_at lw_m1 191 rfl) rfl
theorem q292 : (Jvm.Cond.superclass "BoxSpans" "java/lang/Object") ∈ lw_all := lw_g (lw_at lw_m1 192 rfl) rfl
theorem q294 : (Jvm.Cond.instanceMethod ({ cls := "BoxSpans", name := "needs", desc := "()I" } : Jvm.MethodName)) ∈ lw_all := lw_g (lw_at lw_m1 194 rfl) rfl
theorem q295 : (Jvm.Cond.selects "BoxSpans" ({ cls := "BoxSpans", name := "needs", desc := "()I" } : Jvm.MethodName) ({ cls := "BoxSpans", name := "needs", desc := "()I" } : Jvm.MethodName)) ∈ lw_all := lw_g (lw_at lw_m1 195 rfl) rfl
theorem q296 : (Jvm.Cond.code ({ cls := "BoxSpans", name := "needs", desc := "()I" } : Jvm.MethodName) prog_1_method_30_code (1 : Nat) (Option.some Jvm.ClassFile.FieldType.int)) ∈ lw_all := lw_g (lw_at lw_m1 196 rfl) rfl
theorem q297 : (Jvm.Cond.methodLink "BoxSpans" (212 : Nat) ({ cls := "BoxSpans$Theatre", name := "busiest", desc := "()I" } : Jvm.MethodName)) ∈ lw_all := lw_g (lw_at lw_m1 197 rfl) rfl
theorem q901 : (Jvm.Cond.selects "BoxSpans" ({ cls := "java/lang/Object", name := "getClass", desc := "()Ljava/lang/Class;" } : Jvm.MethodName) ({ cls := "java/lang/Object", name := "getClass", desc := "()Ljava/lang/Class;" } : Jvm.MethodName)) ∈ lw_all := lw_g (lw_at lw_m4 81 rfl) rfl
theorem q1044 : (Jvm.Cond.methodLink "BoxSpans" (199 : Nat) ({ cls := "BoxSpans$Theatre", name := "over", desc := "(I)I" } : Jvm.MethodName)) ∈ lw_all := lw_g (lw_at lw_m4 224 rfl) rfl
theorem q1046 : (Jvm.Cond.instanceMethod ({ cls := "BoxSpans", name := "needsAgain", desc := "()I" } : Jvm.MethodName)) ∈ lw_all := lw_g (lw_at lw_m4 226 rfl) rfl
theorem q1047 : (Jvm.Cond.selects "BoxSpans" ({ cls := "BoxSpans", name := "needsAgain", desc := "()I" } : Jvm.MethodName) ({ cls := "BoxSpans", name := "needsAgain", desc := "()I" } : Jvm.MethodName)) ∈ lw_all := lw_g (lw_at lw_m4 227 rfl) rfl
theorem q1048 : (Jvm.Cond.code ({ cls := "BoxSpans", name := "needsAgain", desc := "()I" } : Jvm.MethodName) prog_1_method_31_code (1 : Nat) (Option.some Jvm.ClassFile.FieldType.int)) ∈ lw_all := lw_g (lw_at lw_m4 228 rfl) rfl
theorem q1049 : (Jvm.Cond.methodLink "BoxSpans" (215 : Nat) ({ cls := "BoxSpans$Theatre", name := "needsAgain", desc := "()I" } : Jvm.MethodName)) ∈ lw_all := lw_g (lw_at lw_m4 229 rfl) rfl
theorem q1079 : (Jvm.Cond.instanceMethod ({ cls := "BoxSpans", name := "isOnce", desc := "()Z" } : Jvm.MethodName)) ∈ lw_all := lw_g (lw_at lw_m5 19 rfl) rfl
theorem q1080 : (Jvm.Cond.selects "BoxSpans" ({ cls := "BoxSpans", name := "isOnce", desc := "()Z" } : Jvm.MethodName) ({ cls := "BoxSpans", name := "isOnce", desc := "()Z" } : Jvm.MethodName)) ∈ lw_all := lw_g (lw_at lw_m5 20 rfl) rfl
theorem q1081 : (Jvm.Cond.code ({ cls := "BoxSpans", name := "isOnce", desc := "()Z" } : Jvm.MethodName) prog_1_method_52_code (1 : Nat) (Option.some Jvm.ClassFile.FieldType.boolean)) ∈ lw_all := lw_g (lw_at lw_m5 21 rfl) rfl
theorem q1082 : (Jvm.Cond.methodLink "BoxSpans" (385 : Nat) ({ cls := "BoxSpans$Theatre", name := "isOnce", desc := "()Z" } : Jvm.MethodName)) ∈ lw_all := lw_g (lw_at lw_m5 22 rfl) rfl
theorem q1119 : (Jvm.Cond.instanceMethod ({ cls := "BoxSpans", name := "save", desc := "()I" } : Jvm.MethodName)) ∈ lw_all := lw_g (lw_at lw_m5 59 rfl) rfl
theorem q1120 : (Jvm.Cond.selects "BoxSpans" ({ cls := "BoxSpans", name := "save", desc := "()I" } : Jvm.MethodName) ({ cls := "BoxSpans", name := "save", desc := "()I" } : Jvm.MethodName)) ∈ lw_all := lw_g (lw_at lw_m5 60 rfl) rfl
theorem q1121 : (Jvm.Cond.code ({ cls := "BoxSpans", name := "save", desc := "()I" } : Jvm.MethodName) prog_1_method_56_code (1 : Nat) (Option.some Jvm.ClassFile.FieldType.int)) ∈ lw_all := lw_g (lw_at lw_m5 61 rfl) rfl
theorem q1122 : (Jvm.Cond.methodLink "BoxSpans" (373 : Nat) ({ cls := "BoxSpans$Theatre", name := "ofAll", desc := "(I)I" } : Jvm.MethodName)) ∈ lw_all := lw_g (lw_at lw_m5 62 rfl) rfl
theorem q1129 : (Jvm.Cond.instanceMethod ({ cls := "BoxSpans", name := "box", desc := "(I)I" } : Jvm.MethodName)) ∈ lw_all := lw_g (lw_at lw_m5 69 rfl) rfl
theorem q1130 : (Jvm.Cond.selects "BoxSpans" ({ cls := "BoxSpans", name := "box", desc := "(I)I" } : Jvm.MethodName) ({ cls := "BoxSpans", name := "box", desc := "(I)I" } : Jvm.MethodName)) ∈ lw_all := lw_g (lw_at lw_m5 70 rfl) rfl
theorem q1131 : (Jvm.Cond.code ({ cls := "BoxSpans", name := "box", desc := "(I)I" } : Jvm.MethodName) prog_1_method_15_code (2 : Nat) (Option.some Jvm.ClassFile.FieldType.int)) ∈ lw_all := lw_g (lw_at lw_m5 71 rfl) rfl
theorem q1132 : (Jvm.Cond.methodLink "BoxSpans" (9 : Nat) ({ cls := "BoxSpans", name := "isIn", desc := "(III)Z" } : Jvm.MethodName)) ∈ lw_all := lw_g (lw_at lw_m5 72 rfl) rfl
theorem q1133 : (Jvm.Cond.static ({ cls := "BoxSpans", name := "isIn", desc := "(III)Z" } : Jvm.MethodName)) ∈ lw_all := lw_g (lw_at lw_m5 73 rfl) rfl
theorem q1134 : (Jvm.Cond.code ({ cls := "BoxSpans", name := "isIn", desc := "(III)Z" } : Jvm.MethodName) prog_1_method_2_code (3 : Nat) (Option.some Jvm.ClassFile.FieldType.boolean)) ∈ lw_all := lw_g (lw_at lw_m5 74 rfl) rfl
theorem q1135 : (Jvm.Cond.methodLink "BoxSpans" (86 : Nat) ({ cls := "BoxSpans", name := "require", desc := "(Z)V" } : Jvm.MethodName)) ∈ lw_all := lw_g (lw_at lw_m5 75 rfl) rfl
theorem q1136 : (Jvm.Cond.static ({ cls := "BoxSpans", name := "require", desc := "(Z)V" } : Jvm.MethodName)) ∈ lw_all := lw_g (lw_at lw_m5 76 rfl) rfl
theorem q1137 : (Jvm.Cond.code ({ cls := "BoxSpans", name := "require", desc := "(Z)V" } : Jvm.MethodName) prog_1_method_6_code (1 : Nat) (Option.none : Option Jvm.ClassFile.FieldType)) ∈ lw_all := lw_g (lw_at lw_m5 77 rfl) rfl
theorem q1138 : (Jvm.Cond.classLink "BoxSpans" (49 : Nat) "java/lang/IllegalArgumentException") ∈ lw_all := lw_g (lw_at lw_m5 78 rfl) rfl
theorem q1139 : (Jvm.Cond.methodLink "BoxSpans" (51 : Nat) ({ cls := "java/lang/IllegalArgumentException", name := "<init>", desc := "()V" } : Jvm.MethodName)) ∈ lw_all := lw_g (lw_at lw_m5 79 rfl) rfl
theorem q1143 : (Jvm.Cond.static ({ cls := "BoxSpans", name := "lambda$box$0", desc := "(ILBoxSpans$Theatre;)I" } : Jvm.MethodName)) ∈ lw_all := lw_g (lw_at lw_m5 83 rfl) rfl
theorem q1144 : (Jvm.Cond.code ({ cls := "BoxSpans", name := "lambda$box$0", desc := "(ILBoxSpans$Theatre;)I" } : Jvm.MethodName) prog_1_method_68_code (2 : Nat) (Option.some Jvm.ClassFile.FieldType.int)) ∈ lw_all := lw_g (lw_at lw_m5 84 rfl) rfl
theorem q1145 : (Jvm.Cond.methodLink "BoxSpans" (427 : Nat) ({ cls := "BoxSpans$Theatre", name := "opens", desc := "(I)I" } : Jvm.MethodName)) ∈ lw_all := lw_g (lw_at lw_m5 85 rfl) rfl
theorem q1150 : (Jvm.Cond.static ({ cls := "BoxSpans", name := "meet", desc := "(ZII)V" } : Jvm.MethodName)) ∈ lw_all := lw_g (lw_at lw_m5 90 rfl) rfl
theorem q1151 : (Jvm.Cond.code ({ cls := "BoxSpans", name := "meet", desc := "(ZII)V" } : Jvm.MethodName) prog_1_method_1_code (3 : Nat) (Option.none : Option Jvm.ClassFile.FieldType)) ∈ lw_all := lw_g (lw_at lw_m5 91 rfl) rfl
theorem q1152 : (Jvm.Cond.classLink "BoxSpans" (1 : Nat) "BoxSpans$Refusal") ∈ lw_all := lw_g (lw_at lw_m5 92 rfl) rfl
theorem q1161 : (Jvm.Cond.methodLink "BoxSpans" (3 : Nat) ({ cls := "BoxSpans$Refusal", name := "<init>", desc := "(IILBoxSpans$Refusal;)V" } : Jvm.MethodName)) ∈ lw_all := lw_g (lw_at lw_m5 101 rfl) rfl
theorem q1262 : (Jvm.Cond.methodLink "BoxSpans" (123 : Nat) ({ cls := "BoxSpans", name := "changed", desc := "(LBoxSpans$Deed;)I" } : Jvm.MethodName)) ∈ lw_all := lw_g (lw_at lw_m5 202 rfl) rfl
theorem q1263 : (Jvm.Cond.privateMethod ({ cls := "BoxSpans", name := "changed", desc := "(LBoxSpans$Deed;)I" } : Jvm.MethodName)) ∈ lw_tbl := lw_at lw_m5 203 rfl
theorem q1264 : (Jvm.Cond.instanceMethod ({ cls := "BoxSpans", name := "changed", desc := "(LBoxSpans$Deed;)I" } : Jvm.MethodName)) ∈ lw_all := lw_g (lw_at lw_m5 204 rfl) rfl
theorem q1265 : (Jvm.Cond.codeWith ({ cls := "BoxSpans", name := "changed", desc := "(LBoxSpans$Deed;)I" } : Jvm.MethodName) prog_1_method_14_code (4 : Nat) (Option.some Jvm.ClassFile.FieldType.int) [((8 : Nat), (20 : Nat), (21 : Nat), (1 : Nat))]) ∈ lw_all := lw_g (lw_at lw_m5 205 rfl) rfl
theorem q1266 : (Jvm.Cond.methodLink "BoxSpans" (99 : Nat) ({ cls := "BoxSpans$Theatre", name := "copy", desc := "()LBoxSpans$Theatre;" } : Jvm.MethodName)) ∈ lw_all := lw_g (lw_at lw_m5 206 rfl) rfl
theorem q1332 : (Jvm.Cond.interfaceEntry "BoxSpans" (103 : Nat)) ∈ lw_tbl := lw_at lw_m6 32 rfl
theorem q1333 : (Jvm.Cond.methodLink "BoxSpans" (103 : Nat) ({ cls := "BoxSpans$Deed", name := "does", desc := "(LBoxSpans$Theatre;)I" } : Jvm.MethodName)) ∈ lw_all := lw_g (lw_at lw_m6 33 rfl) rfl
theorem q1336 : (Jvm.Cond.methodLink "BoxSpans" (109 : Nat) ({ cls := "BoxSpans", name := "become", desc := "(LBoxSpans$Theatre;I)I" } : Jvm.MethodName)) ∈ lw_all := lw_g (lw_at lw_m6 36 rfl) rfl
theorem q1337 : (Jvm.Cond.privateMethod ({ cls := "BoxSpans", name := "become", desc := "(LBoxSpans$Theatre;I)I" } : Jvm.MethodName)) ∈ lw_tbl := lw_at lw_m6 37 rfl
theorem q1338 : (Jvm.Cond.instanceMethod ({ cls := "BoxSpans", name := "become", desc := "(LBoxSpans$Theatre;I)I" } : Jvm.MethodName)) ∈ lw_all := lw_g (lw_at lw_m6 38 rfl) rfl
theorem q1339 : (Jvm.Cond.code ({ cls := "BoxSpans", name := "become", desc := "(LBoxSpans$Theatre;I)I" } : Jvm.MethodName) prog_1_method_13_code (3 : Nat) (Option.some Jvm.ClassFile.FieldType.int)) ∈ lw_all := lw_g (lw_at lw_m6 39 rfl) rfl
theorem q1340 : (Jvm.Cond.methodLink "BoxSpans" (90 : Nat) ({ cls := "java/util/LinkedList", name := "size", desc := "()I" } : Jvm.MethodName)) ∈ lw_all := lw_g (lw_at lw_m6 40 rfl) rfl
theorem q1341 : (Jvm.Cond.methodLink "BoxSpans" (91 : Nat) ({ cls := "java/util/LinkedList", name := "removeFirst", desc := "()Ljava/lang/Object;" } : Jvm.MethodName)) ∈ lw_all := lw_g (lw_at lw_m6 41 rfl) rfl
theorem q1351 : (Jvm.Cond.methodLink "BoxSpans" (95 : Nat) ({ cls := "java/util/LinkedList", name := "addLast", desc := "(Ljava/lang/Object;)V" } : Jvm.MethodName)) ∈ lw_all := lw_g (lw_at lw_m6 51 rfl) rfl
theorem q1355 : (Jvm.Cond.classLink "BoxSpans" (117 : Nat) "java/lang/UnsupportedOperationException") ∈ lw_all := lw_g (lw_at lw_m6 55 rfl) rfl
theorem q1364 : (Jvm.Cond.methodLink "BoxSpans" (119 : Nat) ({ cls := "java/lang/UnsupportedOperationException", name := "<init>", desc := "()V" } : Jvm.MethodName)) ∈ lw_all := lw_g (lw_at lw_m6 64 rfl) rfl
theorem q1390 : (Jvm.Cond.instanceMethod ({ cls := "BoxSpans", name := "let", desc := "(IIII)I" } : Jvm.MethodName)) ∈ lw_all := lw_g (lw_at lw_m6 90 rfl) rfl
theorem q1391 : (Jvm.Cond.selects "BoxSpans" ({ cls := "BoxSpans", name := "let", desc := "(IIII)I" } : Jvm.MethodName) ({ cls := "BoxSpans", name := "let", desc := "(IIII)I" } : Jvm.MethodName)) ∈ lw_all := lw_g (lw_at lw_m6 91 rfl) rfl
theorem q1392 : (Jvm.Cond.code ({ cls := "BoxSpans", name := "let", desc := "(IIII)I" } : Jvm.MethodName) prog_1_method_16_code (6 : Nat) (Option.some Jvm.ClassFile.FieldType.int)) ∈ lw_all := lw_g (lw_at lw_m6 92 rfl) rfl
theorem q1393 : (Jvm.Cond.methodLink "BoxSpans" (127 : Nat) ({ cls := "BoxSpans", name := "requireBox", desc := "(I)V" } : Jvm.MethodName)) ∈ lw_all := lw_g (lw_at lw_m6 93 rfl) rfl
theorem q1394 : (Jvm.Cond.privateMethod ({ cls := "BoxSpans", name := "requireBox", desc := "(I)V" } : Jvm.MethodName)) ∈ lw_tbl := lw_at lw_m6 94 rfl
theorem q1395 : (Jvm.Cond.instanceMethod ({ cls := "BoxSpans", name := "requireBox", desc := "(I)V" } : Jvm.MethodName)) ∈ lw_all := lw_g (lw_at lw_m6 95 rfl) rfl
theorem q1396 : (Jvm.Cond.code ({ cls := "BoxSpans", name := "requireBox", desc := "(I)V" } : Jvm.MethodName) prog_1_method_10_code (2 : Nat) (Option.none : Option Jvm.ClassFile.FieldType)) ∈ lw_all := lw_g (lw_at lw_m6 96 rfl) rfl
theorem q1397 : (Jvm.Cond.methodLink "BoxSpans" (61 : Nat) ({ cls := "BoxSpans$Theatre", name := "boxes", desc := "()I" } : Jvm.MethodName)) ∈ lw_all := lw_g (lw_at lw_m6 97 rfl) rfl
theorem q1398 : (Jvm.Cond.methodLink "BoxSpans" (65 : Nat) ({ cls := "BoxSpans", name := "requireIndex", desc := "(II)V" } : Jvm.MethodName)) ∈ lw_all := lw_g (lw_at lw_m6 98 rfl) rfl
theorem q1399 : (Jvm.Cond.static ({ cls := "BoxSpans", name := "requireIndex", desc := "(II)V" } : Jvm.MethodName)) ∈ lw_all := lw_g (lw_at lw_m6 99 rfl) rfl
theorem q1400 : (Jvm.Cond.code ({ cls := "BoxSpans", name := "requireIndex", desc := "(II)V" } : Jvm.MethodName) prog_1_method_9_code (2 : Nat) (Option.none : Option Jvm.ClassFile.FieldType)) ∈ lw_all := lw_g (lw_at lw_m6 100 rfl) rfl
theorem q1401 : (Jvm.Cond.classLink "BoxSpans" (58 : Nat) "java/lang/IndexOutOfBoundsException") ∈ lw_all := lw_g (lw_at lw_m6 101 rfl) rfl
theorem q1402 : (Jvm.Cond.methodLink "BoxSpans" (60 : Nat) ({ cls := "java/lang/IndexOutOfBoundsException", name := "<init>", desc := "()V" } : Jvm.MethodName)) ∈ lw_all := lw_g (lw_at lw_m6 102 rfl) rfl
theorem q1406 : (Jvm.Cond.methodLink "BoxSpans" (131 : Nat) ({ cls := "BoxSpans", name := "requireSpan", desc := "(III)V" } : Jvm.MethodName)) ∈ lw_all := lw_g (lw_at lw_m6 106 rfl) rfl
theorem q1407 : (Jvm.Cond.static ({ cls := "BoxSpans", name := "requireSpan", desc := "(III)V" } : Jvm.MethodName)) ∈ lw_all := lw_g (lw_at lw_m6 107 rfl) rfl
theorem q1408 : (Jvm.Cond.code ({ cls := "BoxSpans", name := "requireSpan", desc := "(III)V" } : Jvm.MethodName) prog_1_method_12_code (3 : Nat) (Option.none : Option Jvm.ClassFile.FieldType)) ∈ lw_all := lw_g (lw_at lw_m6 108 rfl) rfl
theorem q1409 : (Jvm.Cond.methodLink "BoxSpans" (82 : Nat) ({ cls := "BoxSpans", name := "isSpan", desc := "(II)Z" } : Jvm.MethodName)) ∈ lw_all := lw_g (lw_at lw_m6 109 rfl) rfl
theorem q1410 : (Jvm.Cond.static ({ cls := "BoxSpans", name := "isSpan", desc := "(II)Z" } : Jvm.MethodName)) ∈ lw_all := lw_g (lw_at lw_m6 110 rfl) rfl
theorem q1411 : (Jvm.Cond.code ({ cls := "BoxSpans", name := "isSpan", desc := "(II)Z" } : Jvm.MethodName) prog_1_method_3_code (2 : Nat) (Option.some Jvm.ClassFile.FieldType.boolean)) ∈ lw_all := lw_g (lw_at lw_m6 111 rfl) rfl
theorem q1412 : (Jvm.Cond.classLink "BoxSpans" (135 : Nat) "BoxSpans$Span") ∈ lw_all := lw_g (lw_at lw_m6 112 rfl) rfl
theorem q1413 : (Jvm.Cond.methodLink "BoxSpans" (137 : Nat) ({ cls := "BoxSpans$Span", name := "<init>", desc := "(II)V" } : Jvm.MethodName)) ∈ lw_all := lw_g (lw_at lw_m6 113 rfl) rfl
theorem q1414 : (Jvm.Cond.static ({ cls := "BoxSpans", name := "lambda$let$1", desc := "(IILBoxSpans$Span;LBoxSpans$Theatre;)I" } : Jvm.MethodName)) ∈ lw_all := lw_g (lw_at lw_m6 114 rfl) rfl
theorem q1415 : (Jvm.Cond.code ({ cls := "BoxSpans", name := "lambda$let$1", desc := "(IILBoxSpans$Span;LBoxSpans$Theatre;)I" } : Jvm.MethodName) prog_1_method_67_code (4 : Nat) (Option.some Jvm.ClassFile.FieldType.int)) ∈ lw_all := lw_g (lw_at lw_m6 115 rfl) rfl
theorem q1416 : (Jvm.Cond.methodLink "BoxSpans" (423 : Nat) ({ cls := "BoxSpans$Theatre", name := "lets", desc := "(IILBoxSpans$Span;)I" } : Jvm.MethodName)) ∈ lw_all := lw_g (lw_at lw_m6 116 rfl) rfl
theorem q1450 : (Jvm.Cond.instanceMethod ({ cls := "BoxSpans", name := "cancel", desc := "(I)I" } : Jvm.MethodName)) ∈ lw_all := lw_g (lw_at lw_m6 150 rfl) rfl
theorem q1451 : (Jvm.Cond.selects "BoxSpans" ({ cls := "BoxSpans", name := "cancel", desc := "(I)I" } : Jvm.MethodName) ({ cls := "BoxSpans", name := "cancel", desc := "(I)I" } : Jvm.MethodName)) ∈ lw_all := lw_g (lw_at lw_m6 151 rfl) rfl
theorem q1452 : (Jvm.Cond.code ({ cls := "BoxSpans", name := "cancel", desc := "(I)I" } : Jvm.MethodName) prog_1_method_17_code (2 : Nat) (Option.some Jvm.ClassFile.FieldType.int)) ∈ lw_all := lw_g (lw_at lw_m6 152 rfl) rfl
theorem q1453 : (Jvm.Cond.methodLink "BoxSpans" (142 : Nat) ({ cls := "BoxSpans", name := "lettingAt", desc := "(I)LBoxSpans$Letting;" } : Jvm.MethodName)) ∈ lw_all := lw_g (lw_at lw_m6 153 rfl) rfl
theorem q1454 : (Jvm.Cond.privateMethod ({ cls := "BoxSpans", name := "lettingAt", desc := "(I)LBoxSpans$Letting;" } : Jvm.MethodName)) ∈ lw_tbl := lw_at lw_m6 154 rfl
theorem q1455 : (Jvm.Cond.instanceMethod ({ cls := "BoxSpans", name := "lettingAt", desc := "(I)LBoxSpans$Letting;" } : Jvm.MethodName)) ∈ lw_all := lw_g (lw_at lw_m6 155 rfl) rfl
theorem q1456 : (Jvm.Cond.code ({ cls := "BoxSpans", name := "lettingAt", desc := "(I)LBoxSpans$Letting;" } : Jvm.MethodName) prog_1_method_11_code (2 : Nat) (Option.some (Jvm.ClassFile.FieldType.object "BoxSpans$Letting"))) ∈ lw_all := lw_g (lw_at lw_m6 156 rfl) rfl
theorem q1457 : (Jvm.Cond.methodLink "BoxSpans" (69 : Nat) ({ cls := "BoxSpans$Theatre", name := "lettings", desc := "()Ljava/util/List;" } : Jvm.MethodName)) ∈ lw_all := lw_g (lw_at lw_m6 157 rfl) rfl
theorem q1461 : (Jvm.Cond.interfaceEntry "BoxSpans" (73 : Nat)) ∈ lw_tbl := lw_at lw_m6 161 rfl
theorem q1462 : (Jvm.Cond.methodLink "BoxSpans" (73 : Nat) ({ cls := "java/util/List", name := "size", desc := "()I" } : Jvm.MethodName)) ∈ lw_all := lw_g (lw_at lw_m6 162 rfl) rfl
theorem q1463 : (Jvm.Cond.methodLink "BoxSpans" (78 : Nat) ({ cls := "BoxSpans$Theatre", name := "letting", desc := "(I)LBoxSpans$Letting;" } : Jvm.MethodName)) ∈ lw_all := lw_g (lw_at lw_m6 163 rfl) rfl
theorem q1464 : (Jvm.Cond.static ({ cls := "BoxSpans", name := "lambda$cancel$2", desc := "(ILBoxSpans$Theatre;)I" } : Jvm.MethodName)) ∈ lw_all := lw_g (lw_at lw_m6 164 rfl) rfl
theorem q1465 : (Jvm.Cond.code ({ cls := "BoxSpans", name := "lambda$cancel$2", desc := "(ILBoxSpans$Theatre;)I" } : Jvm.MethodName) prog_1_method_66_code (2 : Nat) (Option.some Jvm.ClassFile.FieldType.int)) ∈ lw_all := lw_g (lw_at lw_m6 165 rfl) rfl
theorem q1466 : (Jvm.Cond.methodLink "BoxSpans" (420 : Nat) ({ cls := "BoxSpans$Theatre", name := "cancels", desc := "(I)I" } : Jvm.MethodName)) ∈ lw_all := lw_g (lw_at lw_m6 166 rfl) rfl
theorem q1486 : (Jvm.Cond.instanceMethod ({ cls := "BoxSpans", name := "move", desc := "(II)I" } : Jvm.MethodName)) ∈ lw_all := lw_g (lw_at lw_m6 186 rfl) rfl
theorem q1487 : (Jvm.Cond.selects "BoxSpans" ({ cls := "BoxSpans", name := "move", desc := "(II)I" } : Jvm.MethodName) ({ cls := "BoxSpans", name := "move", desc := "(II)I" } : Jvm.MethodName)) ∈ lw_all := lw_g (lw_at lw_m6 187 rfl) rfl
theorem q1488 : (Jvm.Cond.code ({ cls := "BoxSpans", name := "move", desc := "(II)I" } : Jvm.MethodName) prog_1_method_18_code (3 : Nat) (Option.some Jvm.ClassFile.FieldType.int)) ∈ lw_all := lw_g (lw_at lw_m6 188 rfl) rfl
theorem q1489 : (Jvm.Cond.static ({ cls := "BoxSpans", name := "lambda$move$3", desc := "(IILBoxSpans$Theatre;)I" } : Jvm.MethodName)) ∈ lw_all := lw_g (lw_at lw_m6 189 rfl) rfl
theorem q1490 : (Jvm.Cond.code ({ cls := "BoxSpans", name := "lambda$move$3", desc := "(IILBoxSpans$Theatre;)I" } : Jvm.MethodName) prog_1_method_65_code (3 : Nat) (Option.some Jvm.ClassFile.FieldType.int)) ∈ lw_all := lw_g (lw_at lw_m6 190 rfl) rfl
theorem q1491 : (Jvm.Cond.methodLink "BoxSpans" (417 : Nat) ({ cls := "BoxSpans$Theatre", name := "moves", desc := "(II)I" } : Jvm.MethodName)) ∈ lw_all := lw_g (lw_at lw_m6 191 rfl) rfl
theorem q1525 : (Jvm.Cond.instanceMethod ({ cls := "BoxSpans", name := "split", desc := "(II)I" } : Jvm.MethodName)) ∈ lw_all := lw_g (lw_at lw_m6 225 rfl) rfl
theorem q1526 : (Jvm.Cond.selects "BoxSpans" ({ cls := "BoxSpans", name := "split", desc := "(II)I" } : Jvm.MethodName) ({ cls := "BoxSpans", name := "split", desc := "(II)I" } : Jvm.MethodName)) ∈ lw_all := lw_g (lw_at lw_m6 226 rfl) rfl
theorem q1527 : (Jvm.Cond.code ({ cls := "BoxSpans", name := "split", desc := "(II)I" } : Jvm.MethodName) prog_1_method_19_code (3 : Nat) (Option.some Jvm.ClassFile.FieldType.int)) ∈ lw_all := lw_g (lw_at lw_m6 227 rfl) rfl
theorem q1528 : (Jvm.Cond.static ({ cls := "BoxSpans", name := "lambda$split$4", desc := "(IILBoxSpans$Theatre;)I" } : Jvm.MethodName)) ∈ lw_all := lw_g (lw_at lw_m6 228 rfl) rfl
theorem q1529 : (Jvm.Cond.code ({ cls := "BoxSpans", name := "lambda$split$4", desc := "(IILBoxSpans$Theatre;)I" } : Jvm.MethodName) prog_1_method_64_code (3 : Nat) (Option.some Jvm.ClassFile.FieldType.int)) ∈ lw_all := lw_g (lw_at lw_m6 229 rfl) rfl
theorem q1530 : (Jvm.Cond.methodLink "BoxSpans" (414 : Nat) ({ cls := "BoxSpans$Theatre", name := "splits", desc := "(II)I" } : Jvm.MethodName)) ∈ lw_all := lw_g (lw_at lw_m6 230 rfl) rfl
theorem q1545 : (Jvm.Cond.instanceMethod ({ cls := "BoxSpans", name := "join", desc := "(II)I" } : Jvm.MethodName)) ∈ lw_all := lw_g (lw_at lw_m7 5 rfl) rfl
theorem q1546 : (Jvm.Cond.selects "BoxSpans" ({ cls := "BoxSpans", name := "join", desc := "(II)I" } : Jvm.MethodName) ({ cls := "BoxSpans", name := "join", desc := "(II)I" } : Jvm.MethodName)) ∈ lw_all := lw_g (lw_at lw_m7 6 rfl) rfl
theorem q1547 : (Jvm.Cond.code ({ cls := "BoxSpans", name := "join", desc := "(II)I" } : Jvm.MethodName) prog_1_method_20_code (3 : Nat) (Option.some Jvm.ClassFile.FieldType.int)) ∈ lw_all := lw_g (lw_at lw_m7 7 rfl) rfl
theorem q1548 : (Jvm.Cond.static ({ cls := "BoxSpans", name := "lambda$join$5", desc := "(IILBoxSpans$Theatre;)I" } : Jvm.MethodName)) ∈ lw_all := lw_g (lw_at lw_m7 8 rfl) rfl
theorem q1549 : (Jvm.Cond.code ({ cls := "BoxSpans", name := "lambda$join$5", desc := "(IILBoxSpans$Theatre;)I" } : Jvm.MethodName) prog_1_method_63_code (3 : Nat) (Option.some Jvm.ClassFile.FieldType.int)) ∈ lw_all := lw_g (lw_at lw_m7 9 rfl) rfl
theorem q1550 : (Jvm.Cond.methodLink "BoxSpans" (411 : Nat) ({ cls := "BoxSpans$Theatre", name := "joins", desc := "(II)I" } : Jvm.MethodName)) ∈ lw_all := lw_g (lw_at lw_m7 10 rfl) rfl
theorem q1571 : (Jvm.Cond.instanceMethod ({ cls := "BoxSpans", name := "lettingOf", desc := "(II)I" } : Jvm.MethodName)) ∈ lw_all := lw_g (lw_at lw_m7 31 rfl) rfl
theorem q1572 : (Jvm.Cond.selects "BoxSpans" ({ cls := "BoxSpans", name := "lettingOf", desc := "(II)I" } : Jvm.MethodName) ({ cls := "BoxSpans", name := "lettingOf", desc := "(II)I" } : Jvm.MethodName)) ∈ lw_all := lw_g (lw_at lw_m7 32 rfl) rfl
theorem q1573 : (Jvm.Cond.code ({ cls := "BoxSpans", name := "lettingOf", desc := "(II)I" } : Jvm.MethodName) prog_1_method_21_code (4 : Nat) (Option.some Jvm.ClassFile.FieldType.int)) ∈ lw_all := lw_g (lw_at lw_m7 33 rfl) rfl
theorem q1574 : (Jvm.Cond.methodLink "BoxSpans" (151 : Nat) ({ cls := "BoxSpans$Letting", name := "box", desc := "()I" } : Jvm.MethodName)) ∈ lw_all := lw_g (lw_at lw_m7 34 rfl) rfl
theorem q1575 : (Jvm.Cond.methodLink "BoxSpans" (156 : Nat) ({ cls := "BoxSpans$Letting", name := "from", desc := "()I" } : Jvm.MethodName)) ∈ lw_all := lw_g (lw_at lw_m7 35 rfl) rfl
theorem q1576 : (Jvm.Cond.methodLink "BoxSpans" (159 : Nat) ({ cls := "BoxSpans$Letting", name := "to", desc := "()I" } : Jvm.MethodName)) ∈ lw_all := lw_g (lw_at lw_m7 36 rfl) rfl
theorem q1577 : (Jvm.Cond.methodLink "BoxSpans" (162 : Nat) ({ cls := "BoxSpans$Letting", name := "party", desc := "()I" } : Jvm.MethodName)) ∈ lw_all := lw_g (lw_at lw_m7 37 rfl) rfl
theorem q1578 : (Jvm.Cond.methodLink "BoxSpans" (165 : Nat) ({ cls := "BoxSpans$Letting", name := "isOver", desc := "()Z" } : Jvm.MethodName)) ∈ lw_all := lw_g (lw_at lw_m7 38 rfl) rfl
theorem q1579 : (Jvm.Cond.methodLink "BoxSpans" (169 : Nat) ({ cls := "BoxSpans", name := "asNumber", desc := "(Z)I" } : Jvm.MethodName)) ∈ lw_all := lw_g (lw_at lw_m7 39 rfl) rfl
theorem q1580 : (Jvm.Cond.static ({ cls := "BoxSpans", name := "asNumber", desc := "(Z)I" } : Jvm.MethodName)) ∈ lw_all := lw_g (lw_at lw_m7 40 rfl) rfl
theorem q1581 : (Jvm.Cond.code ({ cls := "BoxSpans", name := "asNumber", desc := "(Z)I" } : Jvm.MethodName) prog_1_method_4_code (1 : Nat) (Option.some Jvm.ClassFile.FieldType.int)) ∈ lw_all := lw_g (lw_at lw_m7 41 rfl) rfl
theorem q1582 : (Jvm.Cond.methodLink "BoxSpans" (173 : Nat) ({ cls := "BoxSpans$Letting", name := "coins", desc := "()I" } : Jvm.MethodName)) ∈ lw_all := lw_g (lw_at lw_m7 42 rfl) rfl
theorem q1587 : (Jvm.Cond.instanceMethod ({ cls := "BoxSpans", name := "at", desc := "(II)I" } : Jvm.MethodName)) ∈ lw_all := lw_g (lw_at lw_m7 47 rfl) rfl
theorem q1588 : (Jvm.Cond.selects "BoxSpans" ({ cls := "BoxSpans", name := "at", desc := "(II)I" } : Jvm.MethodName) ({ cls := "BoxSpans", name := "at", desc := "(II)I" } : Jvm.MethodName)) ∈ lw_all := lw_g (lw_at lw_m7 48 rfl) rfl
theorem q1589 : (Jvm.Cond.code ({ cls := "BoxSpans", name := "at", desc := "(II)I" } : Jvm.MethodName) prog_1_method_23_code (3 : Nat) (Option.some Jvm.ClassFile.FieldType.int)) ∈ lw_all := lw_g (lw_at lw_m7 49 rfl) rfl
theorem q1590 : (Jvm.Cond.methodLink "BoxSpans" (176 : Nat) ({ cls := "BoxSpans", name := "requireMinute", desc := "(I)V" } : Jvm.MethodName)) ∈ lw_all := lw_g (lw_at lw_m7 50 rfl) rfl
theorem q1591 : (Jvm.Cond.static ({ cls := "BoxSpans", name := "requireMinute", desc := "(I)V" } : Jvm.MethodName)) ∈ lw_all := lw_g (lw_at lw_m7 51 rfl) rfl
theorem q1592 : (Jvm.Cond.code ({ cls := "BoxSpans", name := "requireMinute", desc := "(I)V" } : Jvm.MethodName) prog_1_method_22_code (1 : Nat) (Option.none : Option Jvm.ClassFile.FieldType)) ∈ lw_all := lw_g (lw_at lw_m7 52 rfl) rfl
theorem q1593 : (Jvm.Cond.methodLink "BoxSpans" (179 : Nat) ({ cls := "BoxSpans$Theatre", name := "at", desc := "(II)I" } : Jvm.MethodName)) ∈ lw_all := lw_g (lw_at lw_m7 53 rfl) rfl
theorem q1601 : (Jvm.Cond.instanceMethod ({ cls := "BoxSpans", name := "wish", desc := "(III)I" } : Jvm.MethodName)) ∈ lw_all := lw_g (lw_at lw_m7 61 rfl) rfl
theorem q1602 : (Jvm.Cond.selects "BoxSpans" ({ cls := "BoxSpans", name := "wish", desc := "(III)I" } : Jvm.MethodName) ({ cls := "BoxSpans", name := "wish", desc := "(III)I" } : Jvm.MethodName)) ∈ lw_all := lw_g (lw_at lw_m7 62 rfl) rfl
theorem q1603 : (Jvm.Cond.code ({ cls := "BoxSpans", name := "wish", desc := "(III)I" } : Jvm.MethodName) prog_1_method_24_code (5 : Nat) (Option.some Jvm.ClassFile.FieldType.int)) ∈ lw_all := lw_g (lw_at lw_m7 63 rfl) rfl
theorem q1604 : (Jvm.Cond.static ({ cls := "BoxSpans", name := "lambda$wish$6", desc := "(ILBoxSpans$Span;LBoxSpans$Theatre;)I" } : Jvm.MethodName)) ∈ lw_all := lw_g (lw_at lw_m7 64 rfl) rfl
theorem q1605 : (Jvm.Cond.code ({ cls := "BoxSpans", name := "lambda$wish$6", desc := "(ILBoxSpans$Span;LBoxSpans$Theatre;)I" } : Jvm.MethodName) prog_1_method_62_code (3 : Nat) (Option.some Jvm.ClassFile.FieldType.int)) ∈ lw_all := lw_g (lw_at lw_m7 65 rfl) rfl
theorem q1606 : (Jvm.Cond.methodLink "BoxSpans" (408 : Nat) ({ cls := "BoxSpans$Theatre", name := "wishes", desc := "(ILBoxSpans$Span;)I" } : Jvm.MethodName)) ∈ lw_all := lw_g (lw_at lw_m7 66 rfl) rfl
theorem q1625 : (Jvm.Cond.instanceMethod ({ cls := "BoxSpans", name := "drop", desc := "(I)I" } : Jvm.MethodName)) ∈ lw_all := lw_g (lw_at lw_m7 85 rfl) rfl
theorem q1626 : (Jvm.Cond.selects "BoxSpans" ({ cls := "BoxSpans", name := "drop", desc := "(I)I" } : Jvm.MethodName) ({ cls := "BoxSpans", name := "drop", desc := "(I)I" } : Jvm.MethodName)) ∈ lw_all := lw_g (lw_at lw_m7 86 rfl) rfl
theorem q1627 : (Jvm.Cond.code ({ cls := "BoxSpans", name := "drop", desc := "(I)I" } : Jvm.MethodName) prog_1_method_25_code (2 : Nat) (Option.some Jvm.ClassFile.FieldType.int)) ∈ lw_all := lw_g (lw_at lw_m7 87 rfl) rfl
theorem q1628 : (Jvm.Cond.methodLink "BoxSpans" (186 : Nat) ({ cls := "BoxSpans$Theatre", name := "wishes", desc := "()Ljava/util/List;" } : Jvm.MethodName)) ∈ lw_all := lw_g (lw_at lw_m7 88 rfl) rfl
theorem q1632 : (Jvm.Cond.static ({ cls := "BoxSpans", name := "lambda$drop$7", desc := "(ILBoxSpans$Theatre;)I" } : Jvm.MethodName)) ∈ lw_all := lw_g (lw_at lw_m7 92 rfl) rfl
theorem q1633 : (Jvm.Cond.code ({ cls := "BoxSpans", name := "lambda$drop$7", desc := "(ILBoxSpans$Theatre;)I" } : Jvm.MethodName) prog_1_method_61_code (2 : Nat) (Option.some Jvm.ClassFile.FieldType.int)) ∈ lw_all := lw_g (lw_at lw_m7 93 rfl) rfl
theorem q1634 : (Jvm.Cond.methodLink "BoxSpans" (405 : Nat) ({ cls := "BoxSpans$Theatre", name := "drops", desc := "(I)I" } : Jvm.MethodName)) ∈ lw_all := lw_g (lw_at lw_m7 94 rfl) rfl
theorem q1664 : (Jvm.Cond.instanceMethod ({ cls := "BoxSpans", name := "wishOf", desc := "(II)I" } : Jvm.MethodName)) ∈ lw_all := lw_g (lw_at lw_m7 124 rfl) rfl
theorem q1665 : (Jvm.Cond.selects "BoxSpans" ({ cls := "BoxSpans", name := "wishOf", desc := "(II)I" } : Jvm.MethodName) ({ cls := "BoxSpans", name := "wishOf", desc := "(II)I" } : Jvm.MethodName)) ∈ lw_all := lw_g (lw_at lw_m7 125 rfl) rfl
theorem q1666 : (Jvm.Cond.code ({ cls := "BoxSpans", name := "wishOf", desc := "(II)I" } : Jvm.MethodName) prog_1_method_26_code (4 : Nat) (Option.some Jvm.ClassFile.FieldType.int)) ∈ lw_all := lw_g (lw_at lw_m7 126 rfl) rfl
theorem q1667 : (Jvm.Cond.interfaceEntry "BoxSpans" (190 : Nat)) ∈ lw_tbl := lw_at lw_m7 127 rfl
theorem q1668 : (Jvm.Cond.methodLink "BoxSpans" (190 : Nat) ({ cls := "java/util/List", name := "get", desc := "(I)Ljava/lang/Object;" } : Jvm.MethodName)) ∈ lw_all := lw_g (lw_at lw_m7 128 rfl) rfl
theorem q1669 : (Jvm.Cond.classLink "BoxSpans" (194 : Nat) "BoxSpans$Wish") ∈ lw_all := lw_g (lw_at lw_m7 129 rfl) rfl
theorem q1670 : (Jvm.Cond.methodLink "BoxSpans" (196 : Nat) ({ cls := "BoxSpans$Wish", name := "from", desc := "()I" } : Jvm.MethodName)) ∈ lw_all := lw_g (lw_at lw_m7 130 rfl) rfl
theorem q1671 : (Jvm.Cond.methodLink "BoxSpans" (197 : Nat) ({ cls := "BoxSpans$Wish", name := "to", desc := "()I" } : Jvm.MethodName)) ∈ lw_all := lw_g (lw_at lw_m7 131 rfl) rfl
theorem q1672 : (Jvm.Cond.methodLink "BoxSpans" (198 : Nat) ({ cls := "BoxSpans$Wish", name := "party", desc := "()I" } : Jvm.MethodName)) ∈ lw_all := lw_g (lw_at lw_m7 132 rfl) rfl
theorem q1680 : (Jvm.Cond.instanceMethod ({ cls := "BoxSpans", name := "over", desc := "(I)I" } : Jvm.MethodName)) ∈ lw_all := lw_g (lw_at lw_m7 140 rfl) rfl
theorem q1681 : (Jvm.Cond.selects "BoxSpans" ({ cls := "BoxSpans", name := "over", desc := "(I)I" } : Jvm.MethodName) ({ cls := "BoxSpans", name := "over", desc := "(I)I" } : Jvm.MethodName)) ∈ lw_all := lw_g (lw_at lw_m7 141 rfl) rfl
theorem q1682 : (Jvm.Cond.code ({ cls := "BoxSpans", name := "over", desc := "(I)I" } : Jvm.MethodName) prog_1_method_27_code (2 : Nat) (Option.some Jvm.ClassFile.FieldType.int)) ∈ lw_all := lw_g (lw_at lw_m7 142 rfl) rfl
theorem q1687 : (Jvm.Cond.instanceMethod ({ cls := "BoxSpans", name := "overAgain", desc := "(I)I" } : Jvm.MethodName)) ∈ lw_all := lw_g (lw_at lw_m7 147 rfl) rfl
theorem q1688 : (Jvm.Cond.selects "BoxSpans" ({ cls := "BoxSpans", name := "overAgain", desc := "(I)I" } : Jvm.MethodName) ({ cls := "BoxSpans", name := "overAgain", desc := "(I)I" } : Jvm.MethodName)) ∈ lw_all := lw_g (lw_at lw_m7 148 rfl) rfl
theorem q1689 : (Jvm.Cond.code ({ cls := "BoxSpans", name := "overAgain", desc := "(I)I" } : Jvm.MethodName) prog_1_method_28_code (2 : Nat) (Option.some Jvm.ClassFile.FieldType.int)) ∈ lw_all := lw_g (lw_at lw_m7 149 rfl) rfl
theorem q1690 : (Jvm.Cond.methodLink "BoxSpans" (203 : Nat) ({ cls := "BoxSpans$Theatre", name := "overAgain", desc := "(I)I" } : Jvm.MethodName)) ∈ lw_all := lw_g (lw_at lw_m7 150 rfl) rfl
theorem q1699 : (Jvm.Cond.instanceMethod ({ cls := "BoxSpans", name := "busiest", desc := "()I" } : Jvm.MethodName)) ∈ lw_all := lw_g (lw_at lw_m7 159 rfl) rfl
theorem q1700 : (Jvm.Cond.selects "BoxSpans" ({ cls := "BoxSpans", name := "busiest", desc := "()I" } : Jvm.MethodName) ({ cls := "BoxSpans", name := "busiest", desc := "()I" } : Jvm.MethodName)) ∈ lw_all := lw_g (lw_at lw_m7 160 rfl) rfl
theorem q1701 : (Jvm.Cond.code ({ cls := "BoxSpans", name := "busiest", desc := "()I" } : Jvm.MethodName) prog_1_method_29_code (1 : Nat) (Option.some Jvm.ClassFile.FieldType.int)) ∈ lw_all := lw_g (lw_at lw_m7 161 rfl) rfl
theorem q1702 : (Jvm.Cond.interfaceEntry "BoxSpans" (206 : Nat)) ∈ lw_tbl := lw_at lw_m7 162 rfl
theorem q1703 : (Jvm.Cond.methodLink "BoxSpans" (206 : Nat) ({ cls := "java/util/List", name := "isEmpty", desc := "()Z" } : Jvm.MethodName)) ∈ lw_all := lw_g (lw_at lw_m7 163 rfl) rfl
theorem q1717 : (Jvm.Cond.methodLink "BoxSpans" (209 : Nat) ({ cls := "BoxSpans", name := "requireElement", desc := "(Z)V" } : Jvm.MethodName)) ∈ lw_all := lw_g (lw_at lw_m7 177 rfl) rfl
theorem q1718 : (Jvm.Cond.static ({ cls := "BoxSpans", name := "requireElement", desc := "(Z)V" } : Jvm.MethodName)) ∈ lw_all := lw_g (lw_at lw_m7 178 rfl) rfl
theorem q1719 : (Jvm.Cond.code ({ cls := "BoxSpans", name := "requireElement", desc := "(Z)V" } : Jvm.MethodName) prog_1_method_8_code (1 : Nat) (Option.none : Option Jvm.ClassFile.FieldType)) ∈ lw_all := lw_g (lw_at lw_m7 179 rfl) rfl
theorem q1720 : (Jvm.Cond.classLink "BoxSpans" (55 : Nat) "java/util/NoSuchElementException") ∈ lw_all := lw_g (lw_at lw_m7 180 rfl) rfl
theorem q1721 : (Jvm.Cond.methodLink "BoxSpans" (57 : Nat) ({ cls := "java/util/NoSuchElementException", name := "<init>", desc := "()V" } : Jvm.MethodName)) ∈ lw_all := lw_g (lw_at lw_m7 181 rfl) rfl
theorem q1726 : (Jvm.Cond.instanceMethod ({ cls := "BoxSpans", name := "allot", desc := "()I" } : Jvm.MethodName)) ∈ lw_all := lw_g (lw_at lw_m7 186 rfl) rfl
theorem q1727 : (Jvm.Cond.selects "BoxSpans" ({ cls := "BoxSpans", name := "allot", desc := "()I" } : Jvm.MethodName) ({ cls := "BoxSpans", name := "allot", desc := "()I" } : Jvm.MethodName)) ∈ lw_all := lw_g (lw_at lw_m7 187 rfl) rfl
theorem q1728 : (Jvm.Cond.code ({ cls := "BoxSpans", name := "allot", desc := "()I" } : Jvm.MethodName) prog_1_method_32_code (1 : Nat) (Option.some Jvm.ClassFile.FieldType.int)) ∈ lw_all := lw_g (lw_at lw_m7 188 rfl) rfl
theorem q1729 : (Jvm.Cond.static ({ cls := "BoxSpans", name := "lambda$allot$8", desc := "(LBoxSpans$Theatre;)I" } : Jvm.MethodName)) ∈ lw_all := lw_g (lw_at lw_m7 189 rfl) rfl
theorem q1730 : (Jvm.Cond.code ({ cls := "BoxSpans", name := "lambda$allot$8", desc := "(LBoxSpans$Theatre;)I" } : Jvm.MethodName) prog_1_method_60_code (1 : Nat) (Option.some Jvm.ClassFile.FieldType.int)) ∈ lw_all := lw_g (lw_at lw_m7 190 rfl) rfl
theorem q1731 : (Jvm.Cond.methodLink "BoxSpans" (402 : Nat) ({ cls := "BoxSpans$Theatre", name := "allots", desc := "()I" } : Jvm.MethodName)) ∈ lw_all := lw_g (lw_at lw_m7 191 rfl) rfl
theorem q1779 : (Jvm.Cond.instanceMethod ({ cls := "BoxSpans", name := "boxOf", desc := "(II)I" } : Jvm.MethodName)) ∈ lw_all := lw_g (lw_at lw_m7 239 rfl) rfl
theorem q1780 : (Jvm.Cond.selects "BoxSpans" ({ cls := "BoxSpans", name := "boxOf", desc := "(II)I" } : Jvm.MethodName) ({ cls := "BoxSpans", name := "boxOf", desc := "(II)I" } : Jvm.MethodName)) ∈ lw_all := lw_g (lw_at lw_m8 0 rfl) rfl
theorem q1781 : (Jvm.Cond.code ({ cls := "BoxSpans", name := "boxOf", desc := "(II)I" } : Jvm.MethodName) prog_1_method_33_code (3 : Nat) (Option.some Jvm.ClassFile.FieldType.int)) ∈ lw_all := lw_g (lw_at lw_m8 1 rfl) rfl
theorem q1782 : (Jvm.Cond.methodLink "BoxSpans" (221 : Nat) ({ cls := "BoxSpans$Theatre", name := "seats", desc := "(I)I" } : Jvm.MethodName)) ∈ lw_all := lw_g (lw_at lw_m8 2 rfl) rfl
theorem q1783 : (Jvm.Cond.methodLink "BoxSpans" (224 : Nat) ({ cls := "BoxSpans$Theatre", name := "ofBox", desc := "(II)I" } : Jvm.MethodName)) ∈ lw_all := lw_g (lw_at lw_m8 3 rfl) rfl
theorem q1784 : (Jvm.Cond.methodLink "BoxSpans" (227 : Nat) ({ cls := "BoxSpans$Theatre", name := "spans", desc := "(I)LBoxSpans$Runs;" } : Jvm.MethodName)) ∈ lw_all := lw_g (lw_at lw_m8 4 rfl) rfl
theorem q1803 : (Jvm.Cond.methodLink "BoxSpans" (231 : Nat) ({ cls := "BoxSpans$Runs", name := "many", desc := "()I" } : Jvm.MethodName)) ∈ lw_all := lw_g (lw_at lw_m8 23 rfl) rfl
theorem q1829 : (Jvm.Cond.methodLink "BoxSpans" (236 : Nat) ({ cls := "BoxSpans$Theatre", name := "gaps", desc := "(I)LBoxSpans$Runs;" } : Jvm.MethodName)) ∈ lw_all := lw_g (lw_at lw_m8 49 rfl) rfl
theorem q1835 : (Jvm.Cond.methodLink "BoxSpans" (239 : Nat) ({ cls := "BoxSpans$Runs", name := "longest", desc := "()I" } : Jvm.MethodName)) ∈ lw_all := lw_g (lw_at lw_m8 55 rfl) rfl
theorem q1844 : (Jvm.Cond.instanceMethod ({ cls := "BoxSpans", name := "span", desc := "(IIZ)I" } : Jvm.MethodName)) ∈ lw_all := lw_g (lw_at lw_m8 64 rfl) rfl
theorem q1845 : (Jvm.Cond.selects "BoxSpans" ({ cls := "BoxSpans", name := "span", desc := "(IIZ)I" } : Jvm.MethodName) ({ cls := "BoxSpans", name := "span", desc := "(IIZ)I" } : Jvm.MethodName)) ∈ lw_all := lw_g (lw_at lw_m8 65 rfl) rfl
theorem q1846 : (Jvm.Cond.code ({ cls := "BoxSpans", name := "span", desc := "(IIZ)I" } : Jvm.MethodName) prog_1_method_35_code (4 : Nat) (Option.some Jvm.ClassFile.FieldType.int)) ∈ lw_all := lw_g (lw_at lw_m8 66 rfl) rfl
theorem q1847 : (Jvm.Cond.methodLink "BoxSpans" (248 : Nat) ({ cls := "BoxSpans", name := "endOf", desc := "(LBoxSpans$Runs;IZ)I" } : Jvm.MethodName)) ∈ lw_all := lw_g (lw_at lw_m8 67 rfl) rfl
theorem q1848 : (Jvm.Cond.static ({ cls := "BoxSpans", name := "endOf", desc := "(LBoxSpans$Runs;IZ)I" } : Jvm.MethodName)) ∈ lw_all := lw_g (lw_at lw_m8 68 rfl) rfl
theorem q1849 : (Jvm.Cond.code ({ cls := "BoxSpans", name := "endOf", desc := "(LBoxSpans$Runs;IZ)I" } : Jvm.MethodName) prog_1_method_34_code (4 : Nat) (Option.some Jvm.ClassFile.FieldType.int)) ∈ lw_all := lw_g (lw_at lw_m8 69 rfl) rfl
theorem q1850 : (Jvm.Cond.methodLink "BoxSpans" (242 : Nat) ({ cls := "BoxSpans$Runs", name := "at", desc := "(I)LBoxSpans$Span;" } : Jvm.MethodName)) ∈ lw_all := lw_g (lw_at lw_m8 70 rfl) rfl
theorem q1854 : (Jvm.Cond.methodLink "BoxSpans" (245 : Nat) ({ cls := "BoxSpans$Span", name := "end", desc := "(Z)I" } : Jvm.MethodName)) ∈ lw_all := lw_g (lw_at lw_m8 74 rfl) rfl
theorem q1862 : (Jvm.Cond.instanceMethod ({ cls := "BoxSpans", name := "gap", desc := "(IIZ)I" } : Jvm.MethodName)) ∈ lw_all := lw_g (lw_at lw_m8 82 rfl) rfl
theorem q1863 : (Jvm.Cond.selects "BoxSpans" ({ cls := "BoxSpans", name := "gap", desc := "(IIZ)I" } : Jvm.MethodName) ({ cls := "BoxSpans", name := "gap", desc := "(IIZ)I" } : Jvm.MethodName)) ∈ lw_all := lw_g (lw_at lw_m8 83 rfl) rfl
theorem q1864 : (Jvm.Cond.code ({ cls := "BoxSpans", name := "gap", desc := "(IIZ)I" } : Jvm.MethodName) prog_1_method_36_code (4 : Nat) (Option.some Jvm.ClassFile.FieldType.int)) ∈ lw_all := lw_g (lw_at lw_m8 84 rfl) rfl
theorem q1869 : (Jvm.Cond.instanceMethod ({ cls := "BoxSpans", name := "fits", desc := "(II)I" } : Jvm.MethodName)) ∈ lw_all := lw_g (lw_at lw_m8 89 rfl) rfl
theorem q1870 : (Jvm.Cond.selects "BoxSpans" ({ cls := "BoxSpans", name := "fits", desc := "(II)I" } : Jvm.MethodName) ({ cls := "BoxSpans", name := "fits", desc := "(II)I" } : Jvm.MethodName)) ∈ lw_all := lw_g (lw_at lw_m8 90 rfl) rfl
theorem q1871 : (Jvm.Cond.code ({ cls := "BoxSpans", name := "fits", desc := "(II)I" } : Jvm.MethodName) prog_1_method_37_code (4 : Nat) (Option.some Jvm.ClassFile.FieldType.int)) ∈ lw_all := lw_g (lw_at lw_m8 91 rfl) rfl
theorem q1872 : (Jvm.Cond.methodLink "BoxSpans" (252 : Nat) ({ cls := "BoxSpans$Runs", name := "first", desc := "(I)LBoxSpans$Span;" } : Jvm.MethodName)) ∈ lw_all := lw_g (lw_at lw_m8 92 rfl) rfl
theorem q1876 : (Jvm.Cond.methodLink "BoxSpans" (255 : Nat) ({ cls := "BoxSpans$Span", name := "from", desc := "()I" } : Jvm.MethodName)) ∈ lw_all := lw_g (lw_at lw_m8 96 rfl) rfl
theorem q1881 : (Jvm.Cond.instanceMethod ({ cls := "BoxSpans", name := "roomFor", desc := "(III)I" } : Jvm.MethodName)) ∈ lw_all := lw_g (lw_at lw_m8 101 rfl) rfl
theorem q1882 : (Jvm.Cond.selects "BoxSpans" ({ cls := "BoxSpans", name := "roomFor", desc := "(III)I" } : Jvm.MethodName) ({ cls := "BoxSpans", name := "roomFor", desc := "(III)I" } : Jvm.MethodName)) ∈ lw_all := lw_g (lw_at lw_m8 102 rfl) rfl
theorem q1883 : (Jvm.Cond.code ({ cls := "BoxSpans", name := "roomFor", desc := "(III)I" } : Jvm.MethodName) prog_1_method_38_code (5 : Nat) (Option.some Jvm.ClassFile.FieldType.int)) ∈ lw_all := lw_g (lw_at lw_m8 103 rfl) rfl
theorem q1884 : (Jvm.Cond.methodLink "BoxSpans" (256 : Nat) ({ cls := "BoxSpans$Theatre", name := "roomFor", desc := "(ILBoxSpans$Timed;)I" } : Jvm.MethodName)) ∈ lw_all := lw_g (lw_at lw_m8 104 rfl) rfl
theorem q1889 : (Jvm.Cond.instanceMethod ({ cls := "BoxSpans", name := "hour", desc := "(II)I" } : Jvm.MethodName)) ∈ lw_all := lw_g (lw_at lw_m8 109 rfl) rfl
theorem q1890 : (Jvm.Cond.selects "BoxSpans" ({ cls := "BoxSpans", name := "hour", desc := "(II)I" } : Jvm.MethodName) ({ cls := "BoxSpans", name := "hour", desc := "(II)I" } : Jvm.MethodName)) ∈ lw_all := lw_g (lw_at lw_m8 110 rfl) rfl
theorem q1891 : (Jvm.Cond.code ({ cls := "BoxSpans", name := "hour", desc := "(II)I" } : Jvm.MethodName) prog_1_method_40_code (4 : Nat) (Option.some Jvm.ClassFile.FieldType.int)) ∈ lw_all := lw_g (lw_at lw_m8 111 rfl) rfl
theorem q1892 : (Jvm.Cond.methodLink "BoxSpans" (266 : Nat) ({ cls := "BoxSpans$Theatre", name := "lit", desc := "(I)[Z" } : Jvm.MethodName)) ∈ lw_all := lw_g (lw_at lw_m8 112 rfl) rfl
theorem q1893 : (Jvm.Cond.static ({ cls := "BoxSpans", name := "lambda$hour$9", desc := "([ZI)Z" } : Jvm.MethodName)) ∈ lw_all := lw_g (lw_at lw_m8 113 rfl) rfl
theorem q1894 : (Jvm.Cond.code ({ cls := "BoxSpans", name := "lambda$hour$9", desc := "([ZI)Z" } : Jvm.MethodName) prog_1_method_59_code (2 : Nat) (Option.some Jvm.ClassFile.FieldType.boolean)) ∈ lw_all := lw_g (lw_at lw_m8 114 rfl) rfl
theorem q1895 : (Jvm.Cond.methodLink "BoxSpans" (273 : Nat) ({ cls := "BoxSpans", name := "counted", desc := "(LBoxSpans$Question;II)I" } : Jvm.MethodName)) ∈ lw_all := lw_g (lw_at lw_m8 115 rfl) rfl
theorem q1896 : (Jvm.Cond.static ({ cls := "BoxSpans", name := "counted", desc := "(LBoxSpans$Question;II)I" } : Jvm.MethodName)) ∈ lw_all := lw_g (lw_at lw_m8 116 rfl) rfl
theorem q1897 : (Jvm.Cond.code ({ cls := "BoxSpans", name := "counted", desc := "(LBoxSpans$Question;II)I" } : Jvm.MethodName) prog_1_method_39_code (5 : Nat) (Option.some Jvm.ClassFile.FieldType.int)) ∈ lw_all := lw_g (lw_at lw_m8 117 rfl) rfl
theorem q1898 : (Jvm.Cond.interfaceEntry "BoxSpans" (260 : Nat)) ∈ lw_tbl := lw_at lw_m8 118 rfl
theorem q1899 : (Jvm.Cond.methodLink "BoxSpans" (260 : Nat) ({ cls := "BoxSpans$Question", name := "is", desc := "(I)Z" } : Jvm.MethodName)) ∈ lw_all := lw_g (lw_at lw_m8 119 rfl) rfl
theorem q1904 : (Jvm.Cond.instanceMethod ({ cls := "BoxSpans", name := "ranked", desc := "(I)I" } : Jvm.MethodName)) ∈ lw_all := lw_g (lw_at lw_m8 124 rfl) rfl
theorem q1905 : (Jvm.Cond.selects "BoxSpans" ({ cls := "BoxSpans", name := "ranked", desc := "(I)I" } : Jvm.MethodName) ({ cls := "BoxSpans", name := "ranked", desc := "(I)I" } : Jvm.MethodName)) ∈ lw_all := lw_g (lw_at lw_m8 125 rfl) rfl
theorem q1906 : (Jvm.Cond.code ({ cls := "BoxSpans", name := "ranked", desc := "(I)I" } : Jvm.MethodName) prog_1_method_41_code (3 : Nat) (Option.some Jvm.ClassFile.FieldType.int)) ∈ lw_all := lw_g (lw_at lw_m8 126 rfl) rfl
theorem q1907 : (Jvm.Cond.methodLink "BoxSpans" (277 : Nat) ({ cls := "BoxSpans$Theatre", name := "ranked", desc := "()Ljava/util/List;" } : Jvm.MethodName)) ∈ lw_all := lw_g (lw_at lw_m8 127 rfl) rfl
theorem q1915 : (Jvm.Cond.classLink "BoxSpans" (280 : Nat) "java/lang/Integer") ∈ lw_all := lw_g (lw_at lw_m8 135 rfl) rfl
theorem q1916 : (Jvm.Cond.methodLink "BoxSpans" (282 : Nat) ({ cls := "java/lang/Integer", name := "intValue", desc := "()I" } : Jvm.MethodName)) ∈ lw_all := lw_g (lw_at lw_m8 136 rfl) rfl
theorem q1922 : (Jvm.Cond.instanceMethod ({ cls := "BoxSpans", name := "type", desc := "(C)I" } : Jvm.MethodName)) ∈ lw_all := lw_g (lw_at lw_m8 142 rfl) rfl
theorem q1923 : (Jvm.Cond.selects "BoxSpans" ({ cls := "BoxSpans", name := "type", desc := "(C)I" } : Jvm.MethodName) ({ cls := "BoxSpans", name := "type", desc := "(C)I" } : Jvm.MethodName)) ∈ lw_all := lw_g (lw_at lw_m8 143 rfl) rfl
theorem q1924 : (Jvm.Cond.code ({ cls := "BoxSpans", name := "type", desc := "(C)I" } : Jvm.MethodName) prog_1_method_42_code (2 : Nat) (Option.some Jvm.ClassFile.FieldType.int)) ∈ lw_all := lw_g (lw_at lw_m8 144 rfl) rfl
theorem q1925 : (Jvm.Cond.methodLink "BoxSpans" (285 : Nat) ({ cls := "java/lang/StringBuilder", name := "length", desc := "()I" } : Jvm.MethodName)) ∈ lw_all := lw_g (lw_at lw_m8 145 rfl) rfl
theorem q1926 : (Jvm.Cond.methodLink "BoxSpans" (288 : Nat) ({ cls := "BoxSpans", name := "requireState", desc := "(Z)V" } : Jvm.MethodName)) ∈ lw_all := lw_g (lw_at lw_m8 146 rfl) rfl
theorem q1927 : (Jvm.Cond.static ({ cls := "BoxSpans", name := "requireState", desc := "(Z)V" } : Jvm.MethodName)) ∈ lw_all := lw_g (lw_at lw_m8 147 rfl) rfl
theorem q1928 : (Jvm.Cond.code ({ cls := "BoxSpans", name := "requireState", desc := "(Z)V" } : Jvm.MethodName) prog_1_method_7_code (1 : Nat) (Option.none : Option Jvm.ClassFile.FieldType)) ∈ lw_all := lw_g (lw_at lw_m8 148 rfl) rfl
theorem q1929 : (Jvm.Cond.classLink "BoxSpans" (52 : Nat) "java/lang/IllegalStateException") ∈ lw_all := lw_g (lw_at lw_m8 149 rfl) rfl
theorem q1938 : (Jvm.Cond.methodLink "BoxSpans" (54 : Nat) ({ cls := "java/lang/IllegalStateException", name := "<init>", desc := "()V" } : Jvm.MethodName)) ∈ lw_all := lw_g (lw_at lw_m8 158 rfl) rfl
theorem q1944 : (Jvm.Cond.methodLink "BoxSpans" (291 : Nat) ({ cls := "java/lang/StringBuilder", name := "append", desc := "(C)Ljava/lang/StringBuilder;" } : Jvm.MethodName)) ∈ lw_all := lw_g (lw_at lw_m8 164 rfl) rfl
theorem q1968 : (Jvm.Cond.instanceMethod ({ cls := "BoxSpans", name := "read", desc := "()I" } : Jvm.MethodName)) ∈ lw_all := lw_g (lw_at lw_m8 188 rfl) rfl
theorem q1969 : (Jvm.Cond.selects "BoxSpans" ({ cls := "BoxSpans", name := "read", desc := "()I" } : Jvm.MethodName) ({ cls := "BoxSpans", name := "read", desc := "()I" } : Jvm.MethodName)) ∈ lw_all := lw_g (lw_at lw_m8 189 rfl) rfl
theorem q1970 : (Jvm.Cond.codeWith ({ cls := "BoxSpans", name := "read", desc := "()I" } : Jvm.MethodName) prog_1_method_44_code (4 : Nat) (Option.some Jvm.ClassFile.FieldType.int) [((0 : Nat), (31 : Nat), (41 : Nat), (333 : Nat)), ((0 : Nat), (31 : Nat), (58 : Nat), (1 : Nat)), ((0 : Nat), (31 : Nat), (72 : Nat), (0 : Nat)), ((41 : Nat), (73 : Nat), (72 : Nat), (0 : Nat))]) ∈ lw_all := lw_g (lw_at lw_m8 190 rfl) rfl
theorem q1971 : (Jvm.Cond.classLink "BoxSpans" (333 : Nat) "BoxSpans$TextError") ∈ lw_all := lw_g (lw_at lw_m8 191 rfl) rfl
theorem q1972 : (Jvm.Cond.classLink "BoxSpans" (318 : Nat) "BoxSpans$Reader") ∈ lw_all := lw_g (lw_at lw_m8 192 rfl) rfl
theorem q1974 : (Jvm.Cond.methodLink "BoxSpans" (320 : Nat) ({ cls := "BoxSpans$Reader", name := "<init>", desc := "(Ljava/lang/CharSequence;)V" } : Jvm.MethodName)) ∈ lw_all := lw_g (lw_at lw_m8 194 rfl) rfl
theorem q1985 : (Jvm.Cond.methodLink "BoxSpans" (323 : Nat) ({ cls := "BoxSpans$Reader", name := "commands", desc := "()Ljava/util/List;" } : Jvm.MethodName)) ∈ lw_all := lw_g (lw_at lw_m8 205 rfl) rfl
theorem q2063 : (Jvm.Cond.selects "BoxSpans" ({ cls := "java/lang/Object", name := "toString", desc := "()Ljava/lang/String;" } : Jvm.MethodName) ({ cls := "java/lang/Object", name := "toString", desc := "()Ljava/lang/String;" } : Jvm.MethodName)) ∈ lw_all := lw_g (lw_at lw_m9 43 rfl) rfl
theorem q2348 : (Jvm.Cond.methodLink "BoxSpans" (326 : Nat) ({ cls := "BoxSpans", name := "carriedOut", desc := "(Ljava/util/List;)LBoxSpans$Theatre;" } : Jvm.MethodName)) ∈ lw_all := lw_g (lw_at lw_m10 88 rfl) rfl
theorem q2349 : (Jvm.Cond.privateMethod ({ cls := "BoxSpans", name := "carriedOut", desc := "(Ljava/util/List;)LBoxSpans$Theatre;" } : Jvm.MethodName)) ∈ lw_tbl := lw_at lw_m10 89 rfl
theorem q2350 : (Jvm.Cond.instanceMethod ({ cls := "BoxSpans", name := "carriedOut", desc := "(Ljava/util/List;)LBoxSpans$Theatre;" } : Jvm.MethodName)) ∈ lw_all := lw_g (lw_at lw_m10 90 rfl) rfl
theorem q2351 : (Jvm.Cond.codeWith ({ cls := "BoxSpans", name := "carriedOut", desc := "(Ljava/util/List;)LBoxSpans$Theatre;" } : Jvm.MethodName) prog_1_method_43_code (7 : Nat) (Option.some (Jvm.ClassFile.FieldType.object "BoxSpans$Theatre")) [((52 : Nat), (59 : Nat), (62 : Nat), (1 : Nat))]) ∈ lw_all := lw_g (lw_at lw_m10 91 rfl) rfl
theorem q2352 : (Jvm.Cond.interfaceEntry "BoxSpans" (295 : Nat)) ∈ lw_tbl := lw_at lw_m10 92 rfl
theorem q2353 : (Jvm.Cond.methodLink "BoxSpans" (295 : Nat) ({ cls := "java/util/List", name := "iterator", desc := "()Ljava/util/Iterator;" } : Jvm.MethodName)) ∈ lw_all := lw_g (lw_at lw_m10 93 rfl) rfl
theorem q2354 : (Jvm.Cond.interfaceEntry "BoxSpans" (299 : Nat)) ∈ lw_tbl := lw_at lw_m10 94 rfl
theorem q2355 : (Jvm.Cond.methodLink "BoxSpans" (299 : Nat) ({ cls := "java/util/Iterator", name := "hasNext", desc := "()Z" } : Jvm.MethodName)) ∈ lw_all := lw_g (lw_at lw_m10 95 rfl) rfl
theorem q2356 : (Jvm.Cond.interfaceEntry "BoxSpans" (304 : Nat)) ∈ lw_tbl := lw_at lw_m10 96 rfl
theorem q2357 : (Jvm.Cond.methodLink "BoxSpans" (304 : Nat) ({ cls := "java/util/Iterator", name := "next", desc := "()Ljava/lang/Object;" } : Jvm.MethodName)) ∈ lw_all := lw_g (lw_at lw_m10 97 rfl) rfl
theorem q2358 : (Jvm.Cond.classLink "BoxSpans" (307 : Nat) "BoxSpans$Command") ∈ lw_all := lw_g (lw_at lw_m10 98 rfl) rfl
theorem q2359 : (Jvm.Cond.methodLink "BoxSpans" (309 : Nat) ({ cls := "BoxSpans$Command", name := "isCall", desc := "(LBoxSpans$Theatre;)Z" } : Jvm.MethodName)) ∈ lw_all := lw_g (lw_at lw_m10 99 rfl) rfl
theorem q2365 : (Jvm.Cond.methodLink "BoxSpans" (313 : Nat) ({ cls := "BoxSpans", name := "meet", desc := "(ZII)V" } : Jvm.MethodName)) ∈ lw_all := lw_g (lw_at lw_m10 105 rfl) rfl
theorem q2366 : (Jvm.Cond.methodLink "BoxSpans" (317 : Nat) ({ cls := "BoxSpans$Command", name := "does", desc := "(LBoxSpans$Theatre;)I" } : Jvm.MethodName)) ∈ lw_all := lw_g (lw_at lw_m10 106 rfl) rfl
theorem q2370 : (Jvm.Cond.methodLink "BoxSpans" (330 : Nat) ({ cls := "java/lang/StringBuilder", name := "setLength", desc := "(I)V" } : Jvm.MethodName)) ∈ lw_all := lw_g (lw_at lw_m10 110 rfl) rfl
theorem q2422 : (Jvm.Cond.methodLink "BoxSpans" (335 : Nat) ({ cls := "BoxSpans$TextError", name := "position", desc := "()I" } : Jvm.MethodName)) ∈ lw_all := lw_g (lw_at lw_m10 162 rfl) rfl
theorem q2430 : (Jvm.Cond.instanceMethod ({ cls := "BoxSpans", name := "errorPosition", desc := "()I" } : Jvm.MethodName)) ∈ lw_all := lw_g (lw_at lw_m10 170 rfl) rfl
theorem q2431 : (Jvm.Cond.selects "BoxSpans" ({ cls := "BoxSpans", name := "errorPosition", desc := "()I" } : Jvm.MethodName) ({ cls := "BoxSpans", name := "errorPosition", desc := "()I" } : Jvm.MethodName)) ∈ lw_all := lw_g (lw_at lw_m10 171 rfl) rfl
theorem q2432 : (Jvm.Cond.code ({ cls := "BoxSpans", name := "errorPosition", desc := "()I" } : Jvm.MethodName) prog_1_method_45_code (1 : Nat) (Option.some Jvm.ClassFile.FieldType.int)) ∈ lw_all := lw_g (lw_at lw_m10 172 rfl) rfl
theorem q2437 : (Jvm.Cond.instanceMethod ({ cls := "BoxSpans", name := "refusal", desc := "(ZZ)I" } : Jvm.MethodName)) ∈ lw_all := lw_g (lw_at lw_m10 177 rfl) rfl
theorem q2438 : (Jvm.Cond.selects "BoxSpans" ({ cls := "BoxSpans", name := "refusal", desc := "(ZZ)I" } : Jvm.MethodName) ({ cls := "BoxSpans", name := "refusal", desc := "(ZZ)I" } : Jvm.MethodName)) ∈ lw_all := lw_g (lw_at lw_m10 178 rfl) rfl
theorem q2439 : (Jvm.Cond.code ({ cls := "BoxSpans", name := "refusal", desc := "(ZZ)I" } : Jvm.MethodName) prog_1_method_46_code (5 : Nat) (Option.some Jvm.ClassFile.FieldType.int)) ∈ lw_all := lw_g (lw_at lw_m10 179 rfl) rfl
theorem q2440 : (Jvm.Cond.methodLink "BoxSpans" (338 : Nat) ({ cls := "BoxSpans$Refusal", name := "number", desc := "(Z)I" } : Jvm.MethodName)) ∈ lw_all := lw_g (lw_at lw_m10 180 rfl) rfl
theorem q2444 : (Jvm.Cond.methodLink "BoxSpans" (341 : Nat) ({ cls := "BoxSpans$Refusal", name := "getCause", desc := "()Ljava/lang/Throwable;" } : Jvm.MethodName)) ∈ lw_all := lw_g (lw_at lw_m10 184 rfl) rfl
theorem q2454 : (Jvm.Cond.instanceMethod ({ cls := "BoxSpans", name := "describe", desc := "(I)I" } : Jvm.MethodName)) ∈ lw_all := lw_g (lw_at lw_m10 194 rfl) rfl
theorem q2455 : (Jvm.Cond.selects "BoxSpans" ({ cls := "BoxSpans", name := "describe", desc := "(I)I" } : Jvm.MethodName) ({ cls := "BoxSpans", name := "describe", desc := "(I)I" } : Jvm.MethodName)) ∈ lw_all := lw_g (lw_at lw_m10 195 rfl) rfl
theorem q2456 : (Jvm.Cond.code ({ cls := "BoxSpans", name := "describe", desc := "(I)I" } : Jvm.MethodName) prog_1_method_48_code (5 : Nat) (Option.some Jvm.ClassFile.FieldType.int)) ∈ lw_all := lw_g (lw_at lw_m10 196 rfl) rfl
theorem q2457 : (Jvm.Cond.methodLink "BoxSpans" (352 : Nat) ({ cls := "BoxSpans$Theatre", name := "byMinutes", desc := "(I)Ljava/util/List;" } : Jvm.MethodName)) ∈ lw_all := lw_g (lw_at lw_m10 197 rfl) rfl
theorem q2461 : (Jvm.Cond.classLink "BoxSpans" (152 : Nat) "BoxSpans$Letting") ∈ lw_all := lw_g (lw_at lw_m10 201 rfl) rfl
theorem q2462 : (Jvm.Cond.stringRef "BoxSpans" (356 : Nat) " ") ∈ lw_tbl := lw_at lw_m10 202 rfl
theorem q2463 : (Jvm.Cond.methodLink "BoxSpans" (358 : Nat) ({ cls := "java/lang/StringBuilder", name := "append", desc := "(Ljava/lang/String;)Ljava/lang/StringBuilder;" } : Jvm.MethodName)) ∈ lw_all := lw_g (lw_at lw_m10 203 rfl) rfl
theorem q2464 : (Jvm.Cond.methodLink "BoxSpans" (361 : Nat) ({ cls := "java/lang/StringBuilder", name := "append", desc := "(I)Ljava/lang/StringBuilder;" } : Jvm.MethodName)) ∈ lw_all := lw_g (lw_at lw_m10 204 rfl) rfl
theorem q2465 : (Jvm.Cond.methodLink "BoxSpans" (364 : Nat) ({ cls := "BoxSpans", name := "lineBecomes", desc := "(Ljava/lang/StringBuilder;)I" } : Jvm.MethodName)) ∈ lw_all := lw_g (lw_at lw_m10 205 rfl) rfl
theorem q2466 : (Jvm.Cond.privateMethod ({ cls := "BoxSpans", name := "lineBecomes", desc := "(Ljava/lang/StringBuilder;)I" } : Jvm.MethodName)) ∈ lw_tbl := lw_at lw_m10 206 rfl
theorem q2467 : (Jvm.Cond.instanceMethod ({ cls := "BoxSpans", name := "lineBecomes", desc := "(Ljava/lang/StringBuilder;)I" } : Jvm.MethodName)) ∈ lw_all := lw_g (lw_at lw_m10 207 rfl) rfl
theorem q2468 : (Jvm.Cond.code ({ cls := "BoxSpans", name := "lineBecomes", desc := "(Ljava/lang/StringBuilder;)I" } : Jvm.MethodName) prog_1_method_47_code (2 : Nat) (Option.some Jvm.ClassFile.FieldType.int)) ∈ lw_all := lw_g (lw_at lw_m10 208 rfl) rfl
theorem q2469 : (Jvm.Cond.methodLink "BoxSpans" (345 : Nat) ({ cls := "java/lang/StringBuilder", name := "toString", desc := "()Ljava/lang/String;" } : Jvm.MethodName)) ∈ lw_all := lw_g (lw_at lw_m10 209 rfl) rfl
theorem q2470 : (Jvm.Cond.methodLink "BoxSpans" (349 : Nat) ({ cls := "java/lang/String", name := "length", desc := "()I" } : Jvm.MethodName)) ∈ lw_all := lw_g (lw_at lw_m10 210 rfl) rfl
theorem q2475 : (Jvm.Cond.instanceMethod ({ cls := "BoxSpans", name := "show", desc := "(II)I" } : Jvm.MethodName)) ∈ lw_all := lw_g (lw_at lw_m10 215 rfl) rfl
theorem q2476 : (Jvm.Cond.selects "BoxSpans" ({ cls := "BoxSpans", name := "show", desc := "(II)I" } : Jvm.MethodName) ({ cls := "BoxSpans", name := "show", desc := "(II)I" } : Jvm.MethodName)) ∈ lw_all := lw_g (lw_at lw_m10 216 rfl) rfl
theorem q2477 : (Jvm.Cond.code ({ cls := "BoxSpans", name := "show", desc := "(II)I" } : Jvm.MethodName) prog_1_method_49_code (7 : Nat) (Option.some Jvm.ClassFile.FieldType.int)) ∈ lw_all := lw_g (lw_at lw_m10 217 rfl) rfl
theorem q2478 : (Jvm.Cond.static ({ cls := "BoxSpans", name := "lambda$show$10", desc := "([ZI)Z" } : Jvm.MethodName)) ∈ lw_all := lw_g (lw_at lw_m10 218 rfl) rfl
theorem q2479 : (Jvm.Cond.code ({ cls := "BoxSpans", name := "lambda$show$10", desc := "([ZI)Z" } : Jvm.MethodName) prog_1_method_58_code (2 : Nat) (Option.some Jvm.ClassFile.FieldType.boolean)) ∈ lw_all := lw_g (lw_at lw_m10 219 rfl) rfl
theorem q2484 : (Jvm.Cond.instanceMethod ({ cls := "BoxSpans", name := "written", desc := "(I)C" } : Jvm.MethodName)) ∈ lw_all := lw_g (lw_at lw_m10 224 rfl) rfl
theorem q2485 : (Jvm.Cond.selects "BoxSpans" ({ cls := "BoxSpans", name := "written", desc := "(I)C" } : Jvm.MethodName) ({ cls := "BoxSpans", name := "written", desc := "(I)C" } : Jvm.MethodName)) ∈ lw_all := lw_g (lw_at lw_m10 225 rfl) rfl
theorem q2486 : (Jvm.Cond.code ({ cls := "BoxSpans", name := "written", desc := "(I)C" } : Jvm.MethodName) prog_1_method_50_code (2 : Nat) (Option.some Jvm.ClassFile.FieldType.char)) ∈ lw_all := lw_g (lw_at lw_m10 226 rfl) rfl
theorem q2487 : (Jvm.Cond.methodLink "BoxSpans" (369 : Nat) ({ cls := "java/lang/String", name := "charAt", desc := "(I)C" } : Jvm.MethodName)) ∈ lw_all := lw_g (lw_at lw_m10 227 rfl) rfl
theorem q2492 : (Jvm.Cond.instanceMethod ({ cls := "BoxSpans", name := "account", desc := "(I)I" } : Jvm.MethodName)) ∈ lw_all := lw_g (lw_at lw_m10 232 rfl) rfl
theorem q2493 : (Jvm.Cond.selects "BoxSpans" ({ cls := "BoxSpans", name := "account", desc := "(I)I" } : Jvm.MethodName) ({ cls := "BoxSpans", name := "account", desc := "(I)I" } : Jvm.MethodName)) ∈ lw_all := lw_g (lw_at lw_m10 233 rfl) rfl
theorem q2494 : (Jvm.Cond.code ({ cls := "BoxSpans", name := "account", desc := "(I)I" } : Jvm.MethodName) prog_1_method_51_code (2 : Nat) (Option.some Jvm.ClassFile.FieldType.int)) ∈ lw_all := lw_g (lw_at lw_m10 234 rfl) rfl
theorem q2495 : (Jvm.Cond.methodLink "BoxSpans" (376 : Nat) ({ cls := "BoxSpans$Theatre", name := "allotted", desc := "()I" } : Jvm.MethodName)) ∈ lw_all := lw_g (lw_at lw_m10 235 rfl) rfl
theorem q2499 : (Jvm.Cond.methodLink "BoxSpans" (379 : Nat) ({ cls := "BoxSpans$Theatre", name := "cancelled", desc := "()I" } : Jvm.MethodName)) ∈ lw_all := lw_g (lw_at lw_m10 239 rfl) rfl
theorem q2503 : (Jvm.Cond.methodLink "BoxSpans" (382 : Nat) ({ cls := "BoxSpans$Theatre", name := "joinings", desc := "()I" } : Jvm.MethodName)) ∈ lw_all := lw_g (lw_at lw_m11 3 rfl) rfl
theorem q2525 : (Jvm.Cond.instanceMethod ({ cls := "BoxSpans", name := "meanLength", desc := "()D" } : Jvm.MethodName)) ∈ lw_all := lw_g (lw_at lw_m11 25 rfl) rfl
theorem q2526 : (Jvm.Cond.selects "BoxSpans" ({ cls := "BoxSpans", name := "meanLength", desc := "()D" } : Jvm.MethodName) ({ cls := "BoxSpans", name := "meanLength", desc := "()D" } : Jvm.MethodName)) ∈ lw_all := lw_g (lw_at lw_m11 26 rfl) rfl
theorem q2527 : (Jvm.Cond.code ({ cls := "BoxSpans", name := "meanLength", desc := "()D" } : Jvm.MethodName) prog_1_method_53_code (2 : Nat) (Option.some Jvm.ClassFile.FieldType.double)) ∈ lw_all := lw_g (lw_at lw_m11 27 rfl) rfl
theorem q2528 : (Jvm.Cond.classLink "BoxSpans" (388 : Nat) "java/lang/ArithmeticException") ∈ lw_all := lw_g (lw_at lw_m11 28 rfl) rfl
theorem q2529 : (Jvm.Cond.methodLink "BoxSpans" (390 : Nat) ({ cls := "java/lang/ArithmeticException", name := "<init>", desc := "()V" } : Jvm.MethodName)) ∈ lw_all := lw_g (lw_at lw_m11 29 rfl) rfl
theorem q2537 : (Jvm.Cond.instanceMethod ({ cls := "BoxSpans", name := "letShare", desc := "(I)F" } : Jvm.MethodName)) ∈ lw_all := lw_g (lw_at lw_m11 37 rfl) rfl
theorem q2538 : (Jvm.Cond.selects "BoxSpans" ({ cls := "BoxSpans", name := "letShare", desc := "(I)F" } : Jvm.MethodName) ({ cls := "BoxSpans", name := "letShare", desc := "(I)F" } : Jvm.MethodName)) ∈ lw_all := lw_g (lw_at lw_m11 38 rfl) rfl
theorem q2539 : (Jvm.Cond.code ({ cls := "BoxSpans", name := "letShare", desc := "(I)F" } : Jvm.MethodName) prog_1_method_54_code (2 : Nat) (Option.some Jvm.ClassFile.FieldType.float)) ∈ lw_all := lw_g (lw_at lw_m11 39 rfl) rfl
theorem q2540 : (Jvm.Cond.constantFloat "BoxSpans" (391 : Nat) (1142292480 : UInt32)) ∈ lw_all := lw_g (lw_at lw_m11 40 rfl) rfl
theorem q2545 : (Jvm.Cond.instanceMethod ({ cls := "BoxSpans", name := "undo", desc := "()I" } : Jvm.MethodName)) ∈ lw_all := lw_g (lw_at lw_m11 45 rfl) rfl
theorem q2546 : (Jvm.Cond.selects "BoxSpans" ({ cls := "BoxSpans", name := "undo", desc := "()I" } : Jvm.MethodName) ({ cls := "BoxSpans", name := "undo", desc := "()I" } : Jvm.MethodName)) ∈ lw_all := lw_g (lw_at lw_m11 46 rfl) rfl
theorem q2547 : (Jvm.Cond.code ({ cls := "BoxSpans", name := "undo", desc := "()I" } : Jvm.MethodName) prog_1_method_55_code (1 : Nat) (Option.some Jvm.ClassFile.FieldType.int)) ∈ lw_all := lw_g (lw_at lw_m11 47 rfl) rfl
theorem q2548 : (Jvm.Cond.methodLink "BoxSpans" (392 : Nat) ({ cls := "java/util/LinkedList", name := "isEmpty", desc := "()Z" } : Jvm.MethodName)) ∈ lw_all := lw_g (lw_at lw_m11 48 rfl) rfl
theorem q2552 : (Jvm.Cond.methodLink "BoxSpans" (393 : Nat) ({ cls := "java/util/LinkedList", name := "removeLast", desc := "()Ljava/lang/Object;" } : Jvm.MethodName)) ∈ lw_all := lw_g (lw_at lw_m11 52 rfl) rfl
theorem q2564 : (Jvm.Cond.instanceMethod ({ cls := "BoxSpans", name := "restore", desc := "()I" } : Jvm.MethodName)) ∈ lw_all := lw_g (lw_at lw_m11 64 rfl) rfl
theorem q2565 : (Jvm.Cond.selects "BoxSpans" ({ cls := "BoxSpans", name := "restore", desc := "()I" } : Jvm.MethodName) ({ cls := "BoxSpans", name := "restore", desc := "()I" } : Jvm.MethodName)) ∈ lw_all := lw_g (lw_at lw_m11 65 rfl) rfl
theorem q2566 : (Jvm.Cond.code ({ cls := "BoxSpans", name := "restore", desc := "()I" } : Jvm.MethodName) prog_1_method_57_code (1 : Nat) (Option.some Jvm.ClassFile.FieldType.int)) ∈ lw_all := lw_g (lw_at lw_m11 66 rfl) rfl
theorem q2567 : (Jvm.Cond.methodLink "BoxSpans" (399 : Nat) ({ cls := "java/util/LinkedList", name := "clear", desc := "()V" } : Jvm.MethodName)) ∈ lw_all := lw_g (lw_at lw_m11 67 rfl) rfl
theorem q3095 : (Jvm.Cond.castable "BoxSpans" "java/lang/Object") ∈ lw_tbl := lw_at lw_m13 115 rfl
theorem in_X1 : ∀ w ∈ wsX10, w ∈ lw_all := lw_in wsX10 [278, 280, 282, 284, 286, 288, 290] (by decide +kernel) (by decide +kernel)
/-! BoxSpans$Theatre -/
set_option maxRecDepth 100000
def RX2 : String := "BoxSpans$Theatre"
def TX2 : u_T := fun k => match k with
  | 0 => ("BoxSpans$Theatre", "seats", "Ljava/util/List;", true)
  | 1 => ("BoxSpans$Theatre", "lettings", "Ljava/util/List;", true)
  | 2 => ("BoxSpans$Theatre", "wishes", "Ljava/util/List;", true)
  | 3 => ("BoxSpans$Theatre", "allotted", "I", false)
  | 4 => ("BoxSpans$Theatre", "cancelled", "I", false)
  | _ => ("BoxSpans$Theatre", "joinings", "I", false)
def tyX2 : Nat → FieldType := fun k => match k with
  | 0 => .object "java/util/List"
  | 1 => .object "java/util/List"
  | 2 => .object "java/util/List"
  | 3 => .int
  | 4 => .int
  | _ => .int
abbrev wsX20 : List Cond := u_ws RX2 TX2 6
theorem nmX2 : ∀ a, a < 6 → ∀ b, b < 6 → a ≠ b → (TX2 a).2.1 ≠ (TX2 b).2.1 := by decide +kernel
theorem tyX2_ok : ∀ k, k < 6 → parseFieldDescriptor (TX2 k).2.2.1 = some (tyX2 k) := by decide +kernel
abbrev cX2_init : ByteArray := prog_12_method_1_code
def yX2_init : MethodName := ⟨RX2, "<init>", "()V"⟩
def dkwX2_init_1 : List UInt8 := [181, 0, 18, 42, 187, 0, 9, 89, 183, 0, 11, 181, 0, 21, 177]
abbrev dktX2_init_1 : List UInt8 := dkwX2_init_1 ++ []
def dkwX2_init_0 : List UInt8 := [42, 183, 0, 3, 42, 187, 0, 9, 89, 183, 0, 11, 181, 0, 12, 42, 187, 0, 9, 89, 183, 0, 11]
abbrev dktX2_init_0 : List UInt8 := dkwX2_init_0 ++ dktX2_init_1
theorem dksX2_init_0 : cX2_init.data.toList.drop 0 = dktX2_init_0 := by decide +kernel
theorem dksX2_init_1 : cX2_init.data.toList.drop 23 = dktX2_init_1 := dk_seg dksX2_init_0 23 rfl rfl
theorem dX2_init_0 : decode cX2_init 0 = .ok (.aload_n 0, 1) := dk_42 (dk_at dksX2_init_0 0 rfl rfl)
theorem dX2_init_1 : decode cX2_init 1 = .ok (.invokespecial 3, 3) := dk_183 0 3 (dk_at dksX2_init_0 1 rfl rfl)
theorem dX2_init_4 : decode cX2_init 4 = .ok (.aload_n 0, 1) := dk_42 (dk_at dksX2_init_0 4 rfl rfl)
theorem dX2_init_5 : decode cX2_init 5 = .ok (.new 9, 3) := dk_187 0 9 (dk_at dksX2_init_0 5 rfl rfl)
theorem dX2_init_8 : decode cX2_init 8 = .ok (.dup, 1) := dk_89 (dk_at dksX2_init_0 8 rfl rfl)
theorem dX2_init_9 : decode cX2_init 9 = .ok (.invokespecial 11, 3) := dk_183 0 11 (dk_at dksX2_init_0 9 rfl rfl)
theorem dX2_init_12 : decode cX2_init 12 = .ok (.putfield 12, 3) := dk_181 0 12 (dk_at dksX2_init_0 12 rfl rfl)
theorem dX2_init_15 : decode cX2_init 15 = .ok (.aload_n 0, 1) := dk_42 (dk_at dksX2_init_0 15 rfl rfl)
theorem dX2_init_16 : decode cX2_init 16 = .ok (.new 9, 3) := dk_187 0 9 (dk_at dksX2_init_0 16 rfl rfl)
theorem dX2_init_19 : decode cX2_init 19 = .ok (.dup, 1) := dk_89 (dk_at dksX2_init_0 19 rfl rfl)
theorem dX2_init_20 : decode cX2_init 20 = .ok (.invokespecial 11, 3) := dk_183 0 11 (dk_at dksX2_init_0 20 rfl rfl)
theorem dX2_init_23 : decode cX2_init 23 = .ok (.putfield 18, 3) := dk_181 0 18 (dk_at dksX2_init_1 0 rfl rfl)
theorem dX2_init_26 : decode cX2_init 26 = .ok (.aload_n 0, 1) := dk_42 (dk_at dksX2_init_1 3 rfl rfl)
theorem dX2_init_27 : decode cX2_init 27 = .ok (.new 9, 3) := dk_187 0 9 (dk_at dksX2_init_1 4 rfl rfl)
theorem dX2_init_30 : decode cX2_init 30 = .ok (.dup, 1) := dk_89 (dk_at dksX2_init_1 7 rfl rfl)
theorem dX2_init_31 : decode cX2_init 31 = .ok (.invokespecial 11, 3) := dk_183 0 11 (dk_at dksX2_init_1 8 rfl rfl)
theorem dX2_init_34 : decode cX2_init 34 = .ok (.putfield 21, 3) := dk_181 0 21 (dk_at dksX2_init_1 11 rfl rfl)
theorem dX2_init_37 : decode cX2_init 37 = .ok (.return_, 1) := dk_177 (dk_at dksX2_init_1 14 rfl rfl)
abbrev cX2_busiest : ByteArray := prog_12_method_29_code
def yX2_busiest : MethodName := ⟨RX2, "busiest", "()I"⟩
def dkwX2_busiest_1 : List UInt8 := [28, 167, 0, 4, 27, 60, 132, 2, 1, 167, 255, 227, 27, 172]
abbrev dktX2_busiest_1 : List UInt8 := dkwX2_busiest_1 ++ []
def dkwX2_busiest_0 : List UInt8 := [3, 60, 4, 61, 28, 17, 2, 88, 162, 0, 28, 42, 28, 182, 0, 223, 42, 27, 182, 0, 223, 164, 0, 7]
abbrev dktX2_busiest_0 : List UInt8 := dkwX2_busiest_0 ++ dktX2_busiest_1
theorem dksX2_busiest_0 : cX2_busiest.data.toList.drop 0 = dktX2_busiest_0 := by decide +kernel
theorem dksX2_busiest_1 : cX2_busiest.data.toList.drop 24 = dktX2_busiest_1 := dk_seg dksX2_busiest_0 24 rfl rfl
theorem dX2_busiest_0 : decode cX2_busiest 0 = .ok (.iconst 0, 1) := dk_3 (dk_at dksX2_busiest_0 0 rfl rfl)
theorem dX2_busiest_1 : decode cX2_busiest 1 = .ok (.istore_n 1, 1) := dk_60 (dk_at dksX2_busiest_0 1 rfl rfl)
theorem dX2_busiest_2 : decode cX2_busiest 2 = .ok (.iconst 1, 1) := dk_4 (dk_at dksX2_busiest_0 2 rfl rfl)
theorem dX2_busiest_3 : decode cX2_busiest 3 = .ok (.istore_n 2, 1) := dk_61 (dk_at dksX2_busiest_0 3 rfl rfl)
theorem dX2_busiest_4 : decode cX2_busiest 4 = .ok (.iload_n 2, 1) := dk_28 (dk_at dksX2_busiest_0 4 rfl rfl)
theorem dX2_busiest_5 : decode cX2_busiest 5 = .ok (.sipush 600, 3) := dk_17 2 88 (dk_at dksX2_busiest_0 5 rfl rfl)
theorem dX2_busiest_8 : decode cX2_busiest 8 = .ok (.if_icmp .ge 28, 3) := dk_162 0 28 (dk_at dksX2_busiest_0 8 rfl rfl)
theorem dX2_busiest_11 : decode cX2_busiest 11 = .ok (.aload_n 0, 1) := dk_42 (dk_at dksX2_busiest_0 11 rfl rfl)
theorem dX2_busiest_12 : decode cX2_busiest 12 = .ok (.iload_n 2, 1) := dk_28 (dk_at dksX2_busiest_0 12 rfl rfl)
theorem dX2_busiest_13 : decode cX2_busiest 13 = .ok (.invokevirtual 223, 3) := dk_182 0 223 (dk_at dksX2_busiest_0 13 rfl rfl)
theorem dX2_busiest_16 : decode cX2_busiest 16 = .ok (.aload_n 0, 1) := dk_42 (dk_at dksX2_busiest_0 16 rfl rfl)
theorem dX2_busiest_17 : decode cX2_busiest 17 = .ok (.iload_n 1, 1) := dk_27 (dk_at dksX2_busiest_0 17 rfl rfl)
theorem dX2_busiest_18 : decode cX2_busiest 18 = .ok (.invokevirtual 223, 3) := dk_182 0 223 (dk_at dksX2_busiest_0 18 rfl rfl)
theorem dX2_busiest_21 : decode cX2_busiest 21 = .ok (.if_icmp .le 7, 3) := dk_164 0 7 (dk_at dksX2_busiest_0 21 rfl rfl)
theorem dX2_busiest_24 : decode cX2_busiest 24 = .ok (.iload_n 2, 1) := dk_28 (dk_at dksX2_busiest_1 0 rfl rfl)
theorem dX2_busiest_25 : decode cX2_busiest 25 = .ok (.goto 4, 3) := dk_167 0 4 (dk_at dksX2_busiest_1 1 rfl rfl)
theorem dX2_busiest_28 : decode cX2_busiest 28 = .ok (.iload_n 1, 1) := dk_27 (dk_at dksX2_busiest_1 4 rfl rfl)
theorem dX2_busiest_29 : decode cX2_busiest 29 = .ok (.istore_n 1, 1) := dk_60 (dk_at dksX2_busiest_1 5 rfl rfl)
theorem dX2_busiest_30 : decode cX2_busiest 30 = .ok (.iinc 2 1, 3) := dk_132 2 1 (dk_at dksX2_busiest_1 6 rfl rfl)
theorem dX2_busiest_33 : decode cX2_busiest 33 = .ok (.goto (-29), 3) := dk_167 255 227 (dk_at dksX2_busiest_1 9 rfl rfl)
theorem dX2_busiest_36 : decode cX2_busiest 36 = .ok (.iload_n 1, 1) := dk_27 (dk_at dksX2_busiest_1 12 rfl rfl)
theorem dX2_busiest_37 : decode cX2_busiest 37 = .ok (.ireturn, 1) := dk_172 (dk_at dksX2_busiest_1 13 rfl rfl)
abbrev cX2_over : ByteArray := prog_12_method_27_code
def yX2_over : MethodName := ⟨RX2, "over", "(I)I"⟩
def dkwX2_over_2 : List UInt8 := [3, 96, 61, 167, 255, 219, 28, 172]
abbrev dktX2_over_2 : List UInt8 := dkwX2_over_2 ++ []
def dkwX2_over_1 : List UInt8 := [185, 0, 41, 1, 0, 192, 0, 181, 58, 4, 28, 25, 4, 27, 182, 0, 220, 153, 0, 7, 4, 167, 0, 4]
abbrev dktX2_over_1 : List UInt8 := dkwX2_over_1 ++ dktX2_over_2
def dkwX2_over_0 : List UInt8 := [3, 61, 42, 180, 0, 21, 185, 0, 31, 1, 0, 78, 45, 185, 0, 35, 1, 0, 153, 0, 34, 45]
abbrev dktX2_over_0 : List UInt8 := dkwX2_over_0 ++ dktX2_over_1
theorem dksX2_over_0 : cX2_over.data.toList.drop 0 = dktX2_over_0 := by decide +kernel
theorem dksX2_over_1 : cX2_over.data.toList.drop 22 = dktX2_over_1 := dk_seg dksX2_over_0 22 rfl rfl
theorem dksX2_over_2 : cX2_over.data.toList.drop 46 = dktX2_over_2 := dk_seg dksX2_over_1 24 rfl rfl
theorem dX2_over_0 : decode cX2_over 0 = .ok (.iconst 0, 1) := dk_3 (dk_at dksX2_over_0 0 rfl rfl)
theorem dX2_over_1 : decode cX2_over 1 = .ok (.istore_n 2, 1) := dk_61 (dk_at dksX2_over_0 1 rfl rfl)
theorem dX2_over_2 : decode cX2_over 2 = .ok (.aload_n 0, 1) := dk_42 (dk_at dksX2_over_0 2 rfl rfl)
theorem dX2_over_3 : decode cX2_over 3 = .ok (.getfield 21, 3) := dk_180 0 21 (dk_at dksX2_over_0 3 rfl rfl)
theorem dX2_over_6 : decode cX2_over 6 = .ok (.invokeinterface 31 1, 5) := by decide +kernel
theorem dX2_over_11 : decode cX2_over 11 = .ok (.astore_n 3, 1) := dk_78 (dk_at dksX2_over_0 11 rfl rfl)
theorem dX2_over_12 : decode cX2_over 12 = .ok (.aload_n 3, 1) := dk_45 (dk_at dksX2_over_0 12 rfl rfl)
theorem dX2_over_13 : decode cX2_over 13 = .ok (.invokeinterface 35 1, 5) := by decide +kernel
theorem dX2_over_18 : decode cX2_over 18 = .ok (.ifCond .eq 34, 3) := dk_153 0 34 (dk_at dksX2_over_0 18 rfl rfl)
theorem dX2_over_21 : decode cX2_over 21 = .ok (.aload_n 3, 1) := dk_45 (dk_at dksX2_over_0 21 rfl rfl)
theorem dX2_over_22 : decode cX2_over 22 = .ok (.invokeinterface 41 1, 5) := by decide +kernel
theorem dX2_over_27 : decode cX2_over 27 = .ok (.checkcast 181, 3) := dk_192 0 181 (dk_at dksX2_over_1 5 rfl rfl)
theorem dX2_over_30 : decode cX2_over 30 = .ok (.astore 4, 2) := dk_58 4 (dk_at dksX2_over_1 8 rfl rfl)
theorem dX2_over_32 : decode cX2_over 32 = .ok (.iload_n 2, 1) := dk_28 (dk_at dksX2_over_1 10 rfl rfl)
theorem dX2_over_33 : decode cX2_over 33 = .ok (.aload 4, 2) := dk_25 4 (dk_at dksX2_over_1 11 rfl rfl)
theorem dX2_over_35 : decode cX2_over 35 = .ok (.iload_n 1, 1) := dk_27 (dk_at dksX2_over_1 13 rfl rfl)
theorem dX2_over_36 : decode cX2_over 36 = .ok (.invokevirtual 220, 3) := dk_182 0 220 (dk_at dksX2_over_1 14 rfl rfl)
theorem dX2_over_39 : decode cX2_over 39 = .ok (.ifCond .eq 7, 3) := dk_153 0 7 (dk_at dksX2_over_1 17 rfl rfl)
theorem dX2_over_42 : decode cX2_over 42 = .ok (.iconst 1, 1) := dk_4 (dk_at dksX2_over_1 20 rfl rfl)
theorem dX2_over_43 : decode cX2_over 43 = .ok (.goto 4, 3) := dk_167 0 4 (dk_at dksX2_over_1 21 rfl rfl)
theorem dX2_over_46 : decode cX2_over 46 = .ok (.iconst 0, 1) := dk_3 (dk_at dksX2_over_2 0 rfl rfl)
theorem dX2_over_47 : decode cX2_over 47 = .ok (.iadd, 1) := dk_96 (dk_at dksX2_over_2 1 rfl rfl)
theorem dX2_over_48 : decode cX2_over 48 = .ok (.istore_n 2, 1) := dk_61 (dk_at dksX2_over_2 2 rfl rfl)
theorem dX2_over_49 : decode cX2_over 49 = .ok (.goto (-37), 3) := dk_167 255 219 (dk_at dksX2_over_2 3 rfl rfl)
theorem dX2_over_52 : decode cX2_over 52 = .ok (.iload_n 2, 1) := dk_28 (dk_at dksX2_over_2 6 rfl rfl)
theorem dX2_over_53 : decode cX2_over 53 = .ok (.ireturn, 1) := dk_172 (dk_at dksX2_over_2 7 rfl rfl)
abbrev cX2_needsAgain : ByteArray := prog_12_method_30_code
def yX2_needsAgain : MethodName := ⟨RX2, "needsAgain", "()I"⟩
def dkwX2_needsAgain_8 : List UInt8 := [184, 0, 226, 62, 132, 4, 1, 167, 255, 86, 29, 172]
abbrev dktX2_needsAgain_8 : List UInt8 := dkwX2_needsAgain_8 ++ []
def dkwX2_needsAgain_7 : List UInt8 := [180, 0, 21, 21, 5, 185, 0, 69, 2, 0, 192, 0, 181, 182, 0, 222, 79, 29, 21, 6, 4, 96]
abbrev dktX2_needsAgain_7 : List UInt8 := dkwX2_needsAgain_7 ++ dktX2_needsAgain_8
def dkwX2_needsAgain_6 : List UInt8 := [185, 0, 69, 2, 0, 192, 0, 181, 182, 0, 221, 164, 0, 9, 132, 6, 1, 167, 255, 229, 43, 21, 6, 42]
abbrev dktX2_needsAgain_6 : List UInt8 := dkwX2_needsAgain_6 ++ dktX2_needsAgain_7
def dkwX2_needsAgain_5 : List UInt8 := [132, 6, 1, 167, 255, 180, 44, 21, 5, 4, 84, 3, 54, 6, 43, 21, 6, 46, 42, 180, 0, 21, 21, 5]
abbrev dktX2_needsAgain_5 : List UInt8 := dkwX2_needsAgain_5 ++ dktX2_needsAgain_6
def dkwX2_needsAgain_4 : List UInt8 := [185, 0, 69, 2, 0, 192, 0, 181, 182, 0, 221, 162, 0, 8, 21, 6, 167, 0, 5, 21, 5, 54, 5]
abbrev dktX2_needsAgain_4 : List UInt8 := dkwX2_needsAgain_4 ++ dktX2_needsAgain_5
def dkwX2_needsAgain_3 : List UInt8 := [180, 0, 21, 21, 6, 185, 0, 69, 2, 0, 192, 0, 181, 182, 0, 221, 42, 180, 0, 21, 21, 5]
abbrev dktX2_needsAgain_3 : List UInt8 := dkwX2_needsAgain_3 ++ dktX2_needsAgain_4
def dkwX2_needsAgain_2 : List UInt8 := [185, 0, 65, 1, 0, 162, 0, 68, 44, 21, 6, 51, 154, 0, 51, 21, 5, 2, 159, 0, 40, 42]
abbrev dktX2_needsAgain_2 : List UInt8 := dkwX2_needsAgain_2 ++ dktX2_needsAgain_3
def dkwX2_needsAgain_1 : List UInt8 := [185, 0, 65, 1, 0, 162, 0, 162, 2, 54, 5, 3, 54, 6, 21, 6, 42, 180, 0, 21]
abbrev dktX2_needsAgain_1 : List UInt8 := dkwX2_needsAgain_1 ++ dktX2_needsAgain_2
def dkwX2_needsAgain_0 : List UInt8 := [16, 12, 188, 10, 76, 16, 12, 188, 4, 77, 3, 62, 3, 54, 4, 21, 4, 42, 180, 0, 21]
abbrev dktX2_needsAgain_0 : List UInt8 := dkwX2_needsAgain_0 ++ dktX2_needsAgain_1
theorem dksX2_needsAgain_0 : cX2_needsAgain.data.toList.drop 0 = dktX2_needsAgain_0 := by decide +kernel
theorem dksX2_needsAgain_1 : cX2_needsAgain.data.toList.drop 21 = dktX2_needsAgain_1 := dk_seg dksX2_needsAgain_0 21 rfl rfl
theorem dksX2_needsAgain_2 : cX2_needsAgain.data.toList.drop 41 = dktX2_needsAgain_2 := dk_seg dksX2_needsAgain_1 20 rfl rfl
theorem dksX2_needsAgain_3 : cX2_needsAgain.data.toList.drop 63 = dktX2_needsAgain_3 := dk_seg dksX2_needsAgain_2 22 rfl rfl
theorem dksX2_needsAgain_4 : cX2_needsAgain.data.toList.drop 85 = dktX2_needsAgain_4 := dk_seg dksX2_needsAgain_3 22 rfl rfl
theorem dksX2_needsAgain_5 : cX2_needsAgain.data.toList.drop 108 = dktX2_needsAgain_5 := dk_seg dksX2_needsAgain_4 23 rfl rfl
theorem dksX2_needsAgain_6 : cX2_needsAgain.data.toList.drop 132 = dktX2_needsAgain_6 := dk_seg dksX2_needsAgain_5 24 rfl rfl
theorem dksX2_needsAgain_7 : cX2_needsAgain.data.toList.drop 156 = dktX2_needsAgain_7 := dk_seg dksX2_needsAgain_6 24 rfl rfl
theorem dksX2_needsAgain_8 : cX2_needsAgain.data.toList.drop 178 = dktX2_needsAgain_8 := dk_seg dksX2_needsAgain_7 22 rfl rfl
theorem dX2_needsAgain_0 : decode cX2_needsAgain 0 = .ok (.bipush 12, 2) := dk_16 12 (dk_at dksX2_needsAgain_0 0 rfl rfl)
theorem dX2_needsAgain_2 : decode cX2_needsAgain 2 = .ok (.newarray .int, 2) := dk_188_10 (dk_at dksX2_needsAgain_0 2 rfl rfl)
theorem dX2_needsAgain_4 : decode cX2_needsAgain 4 = .ok (.astore_n 1, 1) := dk_76 (dk_at dksX2_needsAgain_0 4 rfl rfl)
theorem dX2_needsAgain_5 : decode cX2_needsAgain 5 = .ok (.bipush 12, 2) := dk_16 12 (dk_at dksX2_needsAgain_0 5 rfl rfl)
theorem dX2_needsAgain_7 : decode cX2_needsAgain 7 = .ok (.newarray .boolean, 2) := dk_188_4 (dk_at dksX2_needsAgain_0 7 rfl rfl)
theorem dX2_needsAgain_9 : decode cX2_needsAgain 9 = .ok (.astore_n 2, 1) := dk_77 (dk_at dksX2_needsAgain_0 9 rfl rfl)
theorem dX2_needsAgain_10 : decode cX2_needsAgain 10 = .ok (.iconst 0, 1) := dk_3 (dk_at dksX2_needsAgain_0 10 rfl rfl)
theorem dX2_needsAgain_11 : decode cX2_needsAgain 11 = .ok (.istore_n 3, 1) := dk_62 (dk_at dksX2_needsAgain_0 11 rfl rfl)
theorem dX2_needsAgain_12 : decode cX2_needsAgain 12 = .ok (.iconst 0, 1) := dk_3 (dk_at dksX2_needsAgain_0 12 rfl rfl)
theorem dX2_needsAgain_13 : decode cX2_needsAgain 13 = .ok (.istore 4, 2) := dk_54 4 (dk_at dksX2_needsAgain_0 13 rfl rfl)
theorem dX2_needsAgain_15 : decode cX2_needsAgain 15 = .ok (.iload 4, 2) := dk_21 4 (dk_at dksX2_needsAgain_0 15 rfl rfl)
theorem dX2_needsAgain_17 : decode cX2_needsAgain 17 = .ok (.aload_n 0, 1) := dk_42 (dk_at dksX2_needsAgain_0 17 rfl rfl)
theorem dX2_needsAgain_18 : decode cX2_needsAgain 18 = .ok (.getfield 21, 3) := dk_180 0 21 (dk_at dksX2_needsAgain_0 18 rfl rfl)
theorem dX2_needsAgain_21 : decode cX2_needsAgain 21 = .ok (.invokeinterface 65 1, 5) := by decide +kernel
theorem dX2_needsAgain_26 : decode cX2_needsAgain 26 = .ok (.if_icmp .ge 162, 3) := dk_162 0 162 (dk_at dksX2_needsAgain_1 5 rfl rfl)
theorem dX2_needsAgain_29 : decode cX2_needsAgain 29 = .ok (.iconst (-1), 1) := dk_2 (dk_at dksX2_needsAgain_1 8 rfl rfl)
theorem dX2_needsAgain_30 : decode cX2_needsAgain 30 = .ok (.istore 5, 2) := dk_54 5 (dk_at dksX2_needsAgain_1 9 rfl rfl)
theorem dX2_needsAgain_32 : decode cX2_needsAgain 32 = .ok (.iconst 0, 1) := dk_3 (dk_at dksX2_needsAgain_1 11 rfl rfl)
theorem dX2_needsAgain_33 : decode cX2_needsAgain 33 = .ok (.istore 6, 2) := dk_54 6 (dk_at dksX2_needsAgain_1 12 rfl rfl)
theorem dX2_needsAgain_35 : decode cX2_needsAgain 35 = .ok (.iload 6, 2) := dk_21 6 (dk_at dksX2_needsAgain_1 14 rfl rfl)
theorem dX2_needsAgain_37 : decode cX2_needsAgain 37 = .ok (.aload_n 0, 1) := dk_42 (dk_at dksX2_needsAgain_1 16 rfl rfl)
theorem dX2_needsAgain_38 : decode cX2_needsAgain 38 = .ok (.getfield 21, 3) := dk_180 0 21 (dk_at dksX2_needsAgain_1 17 rfl rfl)
theorem dX2_needsAgain_41 : decode cX2_needsAgain 41 = .ok (.invokeinterface 65 1, 5) := by decide +kernel
theorem dX2_needsAgain_46 : decode cX2_needsAgain 46 = .ok (.if_icmp .ge 68, 3) := dk_162 0 68 (dk_at dksX2_needsAgain_2 5 rfl rfl)
theorem dX2_needsAgain_49 : decode cX2_needsAgain 49 = .ok (.aload_n 2, 1) := dk_44 (dk_at dksX2_needsAgain_2 8 rfl rfl)
theorem dX2_needsAgain_50 : decode cX2_needsAgain 50 = .ok (.iload 6, 2) := dk_21 6 (dk_at dksX2_needsAgain_2 9 rfl rfl)
theorem dX2_needsAgain_52 : decode cX2_needsAgain 52 = .ok (.baload, 1) := dk_51 (dk_at dksX2_needsAgain_2 11 rfl rfl)
theorem dX2_needsAgain_53 : decode cX2_needsAgain 53 = .ok (.ifCond .ne 51, 3) := dk_154 0 51 (dk_at dksX2_needsAgain_2 12 rfl rfl)
theorem dX2_needsAgain_56 : decode cX2_needsAgain 56 = .ok (.iload 5, 2) := dk_21 5 (dk_at dksX2_needsAgain_2 15 rfl rfl)
theorem dX2_needsAgain_58 : decode cX2_needsAgain 58 = .ok (.iconst (-1), 1) := dk_2 (dk_at dksX2_needsAgain_2 17 rfl rfl)
theorem dX2_needsAgain_59 : decode cX2_needsAgain 59 = .ok (.if_icmp .eq 40, 3) := dk_159 0 40 (dk_at dksX2_needsAgain_2 18 rfl rfl)
theorem dX2_needsAgain_62 : decode cX2_needsAgain 62 = .ok (.aload_n 0, 1) := dk_42 (dk_at dksX2_needsAgain_2 21 rfl rfl)
theorem dX2_needsAgain_63 : decode cX2_needsAgain 63 = .ok (.getfield 21, 3) := dk_180 0 21 (dk_at dksX2_needsAgain_3 0 rfl rfl)
theorem dX2_needsAgain_66 : decode cX2_needsAgain 66 = .ok (.iload 6, 2) := dk_21 6 (dk_at dksX2_needsAgain_3 3 rfl rfl)
theorem dX2_needsAgain_68 : decode cX2_needsAgain 68 = .ok (.invokeinterface 69 2, 5) := by decide +kernel
theorem dX2_needsAgain_73 : decode cX2_needsAgain 73 = .ok (.checkcast 181, 3) := dk_192 0 181 (dk_at dksX2_needsAgain_3 10 rfl rfl)
theorem dX2_needsAgain_76 : decode cX2_needsAgain 76 = .ok (.invokevirtual 221, 3) := dk_182 0 221 (dk_at dksX2_needsAgain_3 13 rfl rfl)
theorem dX2_needsAgain_79 : decode cX2_needsAgain 79 = .ok (.aload_n 0, 1) := dk_42 (dk_at dksX2_needsAgain_3 16 rfl rfl)
theorem dX2_needsAgain_80 : decode cX2_needsAgain 80 = .ok (.getfield 21, 3) := dk_180 0 21 (dk_at dksX2_needsAgain_3 17 rfl rfl)
theorem dX2_needsAgain_83 : decode cX2_needsAgain 83 = .ok (.iload 5, 2) := dk_21 5 (dk_at dksX2_needsAgain_3 20 rfl rfl)
theorem dX2_needsAgain_85 : decode cX2_needsAgain 85 = .ok (.invokeinterface 69 2, 5) := by decide +kernel
theorem dX2_needsAgain_90 : decode cX2_needsAgain 90 = .ok (.checkcast 181, 3) := dk_192 0 181 (dk_at dksX2_needsAgain_4 5 rfl rfl)
theorem dX2_needsAgain_93 : decode cX2_needsAgain 93 = .ok (.invokevirtual 221, 3) := dk_182 0 221 (dk_at dksX2_needsAgain_4 8 rfl rfl)
theorem dX2_needsAgain_96 : decode cX2_needsAgain 96 = .ok (.if_icmp .ge 8, 3) := dk_162 0 8 (dk_at dksX2_needsAgain_4 11 rfl rfl)
theorem dX2_needsAgain_99 : decode cX2_needsAgain 99 = .ok (.iload 6, 2) := dk_21 6 (dk_at dksX2_needsAgain_4 14 rfl rfl)
theorem dX2_needsAgain_101 : decode cX2_needsAgain 101 = .ok (.goto 5, 3) := dk_167 0 5 (dk_at dksX2_needsAgain_4 16 rfl rfl)
theorem dX2_needsAgain_104 : decode cX2_needsAgain 104 = .ok (.iload 5, 2) := dk_21 5 (dk_at dksX2_needsAgain_4 19 rfl rfl)
theorem dX2_needsAgain_106 : decode cX2_needsAgain 106 = .ok (.istore 5, 2) := dk_54 5 (dk_at dksX2_needsAgain_4 21 rfl rfl)
theorem dX2_needsAgain_108 : decode cX2_needsAgain 108 = .ok (.iinc 6 1, 3) := dk_132 6 1 (dk_at dksX2_needsAgain_5 0 rfl rfl)
theorem dX2_needsAgain_111 : decode cX2_needsAgain 111 = .ok (.goto (-76), 3) := dk_167 255 180 (dk_at dksX2_needsAgain_5 3 rfl rfl)
theorem dX2_needsAgain_114 : decode cX2_needsAgain 114 = .ok (.aload_n 2, 1) := dk_44 (dk_at dksX2_needsAgain_5 6 rfl rfl)
theorem dX2_needsAgain_115 : decode cX2_needsAgain 115 = .ok (.iload 5, 2) := dk_21 5 (dk_at dksX2_needsAgain_5 7 rfl rfl)
theorem dX2_needsAgain_117 : decode cX2_needsAgain 117 = .ok (.iconst 1, 1) := dk_4 (dk_at dksX2_needsAgain_5 9 rfl rfl)
theorem dX2_needsAgain_118 : decode cX2_needsAgain 118 = .ok (.bastore, 1) := dk_84 (dk_at dksX2_needsAgain_5 10 rfl rfl)
theorem dX2_needsAgain_119 : decode cX2_needsAgain 119 = .ok (.iconst 0, 1) := dk_3 (dk_at dksX2_needsAgain_5 11 rfl rfl)
theorem dX2_needsAgain_120 : decode cX2_needsAgain 120 = .ok (.istore 6, 2) := dk_54 6 (dk_at dksX2_needsAgain_5 12 rfl rfl)
theorem dX2_needsAgain_122 : decode cX2_needsAgain 122 = .ok (.aload_n 1, 1) := dk_43 (dk_at dksX2_needsAgain_5 14 rfl rfl)
theorem dX2_needsAgain_123 : decode cX2_needsAgain 123 = .ok (.iload 6, 2) := dk_21 6 (dk_at dksX2_needsAgain_5 15 rfl rfl)
theorem dX2_needsAgain_125 : decode cX2_needsAgain 125 = .ok (.iaload, 1) := dk_46 (dk_at dksX2_needsAgain_5 17 rfl rfl)
theorem dX2_needsAgain_126 : decode cX2_needsAgain 126 = .ok (.aload_n 0, 1) := dk_42 (dk_at dksX2_needsAgain_5 18 rfl rfl)
theorem dX2_needsAgain_127 : decode cX2_needsAgain 127 = .ok (.getfield 21, 3) := dk_180 0 21 (dk_at dksX2_needsAgain_5 19 rfl rfl)
theorem dX2_needsAgain_130 : decode cX2_needsAgain 130 = .ok (.iload 5, 2) := dk_21 5 (dk_at dksX2_needsAgain_5 22 rfl rfl)
theorem dX2_needsAgain_132 : decode cX2_needsAgain 132 = .ok (.invokeinterface 69 2, 5) := by decide +kernel
theorem dX2_needsAgain_137 : decode cX2_needsAgain 137 = .ok (.checkcast 181, 3) := dk_192 0 181 (dk_at dksX2_needsAgain_6 5 rfl rfl)
theorem dX2_needsAgain_140 : decode cX2_needsAgain 140 = .ok (.invokevirtual 221, 3) := dk_182 0 221 (dk_at dksX2_needsAgain_6 8 rfl rfl)
theorem dX2_needsAgain_143 : decode cX2_needsAgain 143 = .ok (.if_icmp .le 9, 3) := dk_164 0 9 (dk_at dksX2_needsAgain_6 11 rfl rfl)
theorem dX2_needsAgain_146 : decode cX2_needsAgain 146 = .ok (.iinc 6 1, 3) := dk_132 6 1 (dk_at dksX2_needsAgain_6 14 rfl rfl)
theorem dX2_needsAgain_149 : decode cX2_needsAgain 149 = .ok (.goto (-27), 3) := dk_167 255 229 (dk_at dksX2_needsAgain_6 17 rfl rfl)
theorem dX2_needsAgain_152 : decode cX2_needsAgain 152 = .ok (.aload_n 1, 1) := dk_43 (dk_at dksX2_needsAgain_6 20 rfl rfl)
theorem dX2_needsAgain_153 : decode cX2_needsAgain 153 = .ok (.iload 6, 2) := dk_21 6 (dk_at dksX2_needsAgain_6 21 rfl rfl)
theorem dX2_needsAgain_155 : decode cX2_needsAgain 155 = .ok (.aload_n 0, 1) := dk_42 (dk_at dksX2_needsAgain_6 23 rfl rfl)
theorem dX2_needsAgain_156 : decode cX2_needsAgain 156 = .ok (.getfield 21, 3) := dk_180 0 21 (dk_at dksX2_needsAgain_7 0 rfl rfl)
theorem dX2_needsAgain_159 : decode cX2_needsAgain 159 = .ok (.iload 5, 2) := dk_21 5 (dk_at dksX2_needsAgain_7 3 rfl rfl)
theorem dX2_needsAgain_161 : decode cX2_needsAgain 161 = .ok (.invokeinterface 69 2, 5) := by decide +kernel
theorem dX2_needsAgain_166 : decode cX2_needsAgain 166 = .ok (.checkcast 181, 3) := dk_192 0 181 (dk_at dksX2_needsAgain_7 10 rfl rfl)
theorem dX2_needsAgain_169 : decode cX2_needsAgain 169 = .ok (.invokevirtual 222, 3) := dk_182 0 222 (dk_at dksX2_needsAgain_7 13 rfl rfl)
theorem dX2_needsAgain_172 : decode cX2_needsAgain 172 = .ok (.iastore, 1) := dk_79 (dk_at dksX2_needsAgain_7 16 rfl rfl)
theorem dX2_needsAgain_173 : decode cX2_needsAgain 173 = .ok (.iload_n 3, 1) := dk_29 (dk_at dksX2_needsAgain_7 17 rfl rfl)
theorem dX2_needsAgain_174 : decode cX2_needsAgain 174 = .ok (.iload 6, 2) := dk_21 6 (dk_at dksX2_needsAgain_7 18 rfl rfl)
theorem dX2_needsAgain_176 : decode cX2_needsAgain 176 = .ok (.iconst 1, 1) := dk_4 (dk_at dksX2_needsAgain_7 20 rfl rfl)
theorem dX2_needsAgain_177 : decode cX2_needsAgain 177 = .ok (.iadd, 1) := dk_96 (dk_at dksX2_needsAgain_7 21 rfl rfl)
theorem dX2_needsAgain_178 : decode cX2_needsAgain 178 = .ok (.invokestatic 226, 3) := dk_184 0 226 (dk_at dksX2_needsAgain_8 0 rfl rfl)
theorem dX2_needsAgain_181 : decode cX2_needsAgain 181 = .ok (.istore_n 3, 1) := dk_62 (dk_at dksX2_needsAgain_8 3 rfl rfl)
theorem dX2_needsAgain_182 : decode cX2_needsAgain 182 = .ok (.iinc 4 1, 3) := dk_132 4 1 (dk_at dksX2_needsAgain_8 4 rfl rfl)
theorem dX2_needsAgain_185 : decode cX2_needsAgain 185 = .ok (.goto (-170), 3) := dk_167 255 86 (dk_at dksX2_needsAgain_8 7 rfl rfl)
theorem dX2_needsAgain_188 : decode cX2_needsAgain 188 = .ok (.iload_n 3, 1) := dk_29 (dk_at dksX2_needsAgain_8 10 rfl rfl)
theorem dX2_needsAgain_189 : decode cX2_needsAgain 189 = .ok (.ireturn, 1) := dk_172 (dk_at dksX2_needsAgain_8 11 rfl rfl)
abbrev cX2_isOnce : ByteArray := prog_12_method_40_code
def yX2_isOnce : MethodName := ⟨RX2, "isOnce", "()Z"⟩
def dkwX2_isOnce_5 : List UInt8 := [167, 0, 4, 3, 172]
abbrev dktX2_isOnce_5 : List UInt8 := dkwX2_isOnce_5 ++ []
def dkwX2_isOnce_4 : List UInt8 := [96, 60, 132, 3, 1, 167, 255, 171, 132, 2, 1, 167, 255, 155, 27, 42, 4, 182, 0, 253, 160, 0, 7, 4]
abbrev dktX2_isOnce_4 : List UInt8 := dkwX2_isOnce_4 ++ dktX2_isOnce_5
def dkwX2_isOnce_3 : List UInt8 := [167, 0, 4, 3, 96, 54, 4, 132, 5, 1, 167, 255, 203, 21, 4, 4, 164, 0, 5, 3, 172, 27, 21, 4]
abbrev dktX2_isOnce_3 : List UInt8 := dkwX2_isOnce_3 ++ dktX2_isOnce_4
def dkwX2_isOnce_2 : List UInt8 := [182, 0, 89, 28, 182, 0, 93, 153, 0, 20, 42, 21, 5, 182, 0, 89, 29, 182, 0, 158, 153, 0, 7, 4]
abbrev dktX2_isOnce_2 : List UInt8 := dkwX2_isOnce_2 ++ dktX2_isOnce_3
def dkwX2_isOnce_1 : List UInt8 := [3, 54, 5, 21, 5, 42, 180, 0, 18, 185, 0, 65, 1, 0, 162, 0, 45, 21, 4, 42, 21, 5]
abbrev dktX2_isOnce_1 : List UInt8 := dkwX2_isOnce_1 ++ dktX2_isOnce_2
def dkwX2_isOnce_0 : List UInt8 := [3, 60, 3, 61, 28, 42, 182, 0, 78, 162, 0, 99, 3, 62, 29, 17, 2, 88, 162, 0, 84, 3, 54, 4]
abbrev dktX2_isOnce_0 : List UInt8 := dkwX2_isOnce_0 ++ dktX2_isOnce_1
theorem dksX2_isOnce_0 : cX2_isOnce.data.toList.drop 0 = dktX2_isOnce_0 := by decide +kernel
theorem dksX2_isOnce_1 : cX2_isOnce.data.toList.drop 24 = dktX2_isOnce_1 := dk_seg dksX2_isOnce_0 24 rfl rfl
theorem dksX2_isOnce_2 : cX2_isOnce.data.toList.drop 46 = dktX2_isOnce_2 := dk_seg dksX2_isOnce_1 22 rfl rfl
theorem dksX2_isOnce_3 : cX2_isOnce.data.toList.drop 70 = dktX2_isOnce_3 := dk_seg dksX2_isOnce_2 24 rfl rfl
theorem dksX2_isOnce_4 : cX2_isOnce.data.toList.drop 94 = dktX2_isOnce_4 := dk_seg dksX2_isOnce_3 24 rfl rfl
theorem dksX2_isOnce_5 : cX2_isOnce.data.toList.drop 118 = dktX2_isOnce_5 := dk_seg dksX2_isOnce_4 24 rfl rfl
theorem dX2_isOnce_0 : decode cX2_isOnce 0 = .ok (.iconst 0, 1) := dk_3 (dk_at dksX2_isOnce_0 0 rfl rfl)
theorem dX2_isOnce_1 : decode cX2_isOnce 1 = .ok (.istore_n 1, 1) := dk_60 (dk_at dksX2_isOnce_0 1 rfl rfl)
theorem dX2_isOnce_2 : decode cX2_isOnce 2 = .ok (.iconst 0, 1) := dk_3 (dk_at dksX2_isOnce_0 2 rfl rfl)
theorem dX2_isOnce_3 : decode cX2_isOnce 3 = .ok (.istore_n 2, 1) := dk_61 (dk_at dksX2_isOnce_0 3 rfl rfl)
theorem dX2_isOnce_4 : decode cX2_isOnce 4 = .ok (.iload_n 2, 1) := dk_28 (dk_at dksX2_isOnce_0 4 rfl rfl)
theorem dX2_isOnce_5 : decode cX2_isOnce 5 = .ok (.aload_n 0, 1) := dk_42 (dk_at dksX2_isOnce_0 5 rfl rfl)
theorem dX2_isOnce_6 : decode cX2_isOnce 6 = .ok (.invokevirtual 78, 3) := dk_182 0 78 (dk_at dksX2_isOnce_0 6 rfl rfl)
theorem dX2_isOnce_9 : decode cX2_isOnce 9 = .ok (.if_icmp .ge 99, 3) := dk_162 0 99 (dk_at dksX2_isOnce_0 9 rfl rfl)
theorem dX2_isOnce_12 : decode cX2_isOnce 12 = .ok (.iconst 0, 1) := dk_3 (dk_at dksX2_isOnce_0 12 rfl rfl)
theorem dX2_isOnce_13 : decode cX2_isOnce 13 = .ok (.istore_n 3, 1) := dk_62 (dk_at dksX2_isOnce_0 13 rfl rfl)
theorem dX2_isOnce_14 : decode cX2_isOnce 14 = .ok (.iload_n 3, 1) := dk_29 (dk_at dksX2_isOnce_0 14 rfl rfl)
theorem dX2_isOnce_15 : decode cX2_isOnce 15 = .ok (.sipush 600, 3) := dk_17 2 88 (dk_at dksX2_isOnce_0 15 rfl rfl)
theorem dX2_isOnce_18 : decode cX2_isOnce 18 = .ok (.if_icmp .ge 84, 3) := dk_162 0 84 (dk_at dksX2_isOnce_0 18 rfl rfl)
theorem dX2_isOnce_21 : decode cX2_isOnce 21 = .ok (.iconst 0, 1) := dk_3 (dk_at dksX2_isOnce_0 21 rfl rfl)
theorem dX2_isOnce_22 : decode cX2_isOnce 22 = .ok (.istore 4, 2) := dk_54 4 (dk_at dksX2_isOnce_0 22 rfl rfl)
theorem dX2_isOnce_24 : decode cX2_isOnce 24 = .ok (.iconst 0, 1) := dk_3 (dk_at dksX2_isOnce_1 0 rfl rfl)
theorem dX2_isOnce_25 : decode cX2_isOnce 25 = .ok (.istore 5, 2) := dk_54 5 (dk_at dksX2_isOnce_1 1 rfl rfl)
theorem dX2_isOnce_27 : decode cX2_isOnce 27 = .ok (.iload 5, 2) := dk_21 5 (dk_at dksX2_isOnce_1 3 rfl rfl)
theorem dX2_isOnce_29 : decode cX2_isOnce 29 = .ok (.aload_n 0, 1) := dk_42 (dk_at dksX2_isOnce_1 5 rfl rfl)
theorem dX2_isOnce_30 : decode cX2_isOnce 30 = .ok (.getfield 18, 3) := dk_180 0 18 (dk_at dksX2_isOnce_1 6 rfl rfl)
theorem dX2_isOnce_33 : decode cX2_isOnce 33 = .ok (.invokeinterface 65 1, 5) := by decide +kernel
theorem dX2_isOnce_38 : decode cX2_isOnce 38 = .ok (.if_icmp .ge 45, 3) := dk_162 0 45 (dk_at dksX2_isOnce_1 14 rfl rfl)
theorem dX2_isOnce_41 : decode cX2_isOnce 41 = .ok (.iload 4, 2) := dk_21 4 (dk_at dksX2_isOnce_1 17 rfl rfl)
theorem dX2_isOnce_43 : decode cX2_isOnce 43 = .ok (.aload_n 0, 1) := dk_42 (dk_at dksX2_isOnce_1 19 rfl rfl)
theorem dX2_isOnce_44 : decode cX2_isOnce 44 = .ok (.iload 5, 2) := dk_21 5 (dk_at dksX2_isOnce_1 20 rfl rfl)
theorem dX2_isOnce_46 : decode cX2_isOnce 46 = .ok (.invokevirtual 89, 3) := dk_182 0 89 (dk_at dksX2_isOnce_2 0 rfl rfl)
theorem dX2_isOnce_49 : decode cX2_isOnce 49 = .ok (.iload_n 2, 1) := dk_28 (dk_at dksX2_isOnce_2 3 rfl rfl)
theorem dX2_isOnce_50 : decode cX2_isOnce 50 = .ok (.invokevirtual 93, 3) := dk_182 0 93 (dk_at dksX2_isOnce_2 4 rfl rfl)
theorem dX2_isOnce_53 : decode cX2_isOnce 53 = .ok (.ifCond .eq 20, 3) := dk_153 0 20 (dk_at dksX2_isOnce_2 7 rfl rfl)
theorem dX2_isOnce_56 : decode cX2_isOnce 56 = .ok (.aload_n 0, 1) := dk_42 (dk_at dksX2_isOnce_2 10 rfl rfl)
theorem dX2_isOnce_57 : decode cX2_isOnce 57 = .ok (.iload 5, 2) := dk_21 5 (dk_at dksX2_isOnce_2 11 rfl rfl)
theorem dX2_isOnce_59 : decode cX2_isOnce 59 = .ok (.invokevirtual 89, 3) := dk_182 0 89 (dk_at dksX2_isOnce_2 13 rfl rfl)
theorem dX2_isOnce_62 : decode cX2_isOnce 62 = .ok (.iload_n 3, 1) := dk_29 (dk_at dksX2_isOnce_2 16 rfl rfl)
theorem dX2_isOnce_63 : decode cX2_isOnce 63 = .ok (.invokevirtual 158, 3) := dk_182 0 158 (dk_at dksX2_isOnce_2 17 rfl rfl)
theorem dX2_isOnce_66 : decode cX2_isOnce 66 = .ok (.ifCond .eq 7, 3) := dk_153 0 7 (dk_at dksX2_isOnce_2 20 rfl rfl)
theorem dX2_isOnce_69 : decode cX2_isOnce 69 = .ok (.iconst 1, 1) := dk_4 (dk_at dksX2_isOnce_2 23 rfl rfl)
theorem dX2_isOnce_70 : decode cX2_isOnce 70 = .ok (.goto 4, 3) := dk_167 0 4 (dk_at dksX2_isOnce_3 0 rfl rfl)
theorem dX2_isOnce_73 : decode cX2_isOnce 73 = .ok (.iconst 0, 1) := dk_3 (dk_at dksX2_isOnce_3 3 rfl rfl)
theorem dX2_isOnce_74 : decode cX2_isOnce 74 = .ok (.iadd, 1) := dk_96 (dk_at dksX2_isOnce_3 4 rfl rfl)
theorem dX2_isOnce_75 : decode cX2_isOnce 75 = .ok (.istore 4, 2) := dk_54 4 (dk_at dksX2_isOnce_3 5 rfl rfl)
theorem dX2_isOnce_77 : decode cX2_isOnce 77 = .ok (.iinc 5 1, 3) := dk_132 5 1 (dk_at dksX2_isOnce_3 7 rfl rfl)
theorem dX2_isOnce_80 : decode cX2_isOnce 80 = .ok (.goto (-53), 3) := dk_167 255 203 (dk_at dksX2_isOnce_3 10 rfl rfl)
theorem dX2_isOnce_83 : decode cX2_isOnce 83 = .ok (.iload 4, 2) := dk_21 4 (dk_at dksX2_isOnce_3 13 rfl rfl)
theorem dX2_isOnce_85 : decode cX2_isOnce 85 = .ok (.iconst 1, 1) := dk_4 (dk_at dksX2_isOnce_3 15 rfl rfl)
theorem dX2_isOnce_86 : decode cX2_isOnce 86 = .ok (.if_icmp .le 5, 3) := dk_164 0 5 (dk_at dksX2_isOnce_3 16 rfl rfl)
theorem dX2_isOnce_89 : decode cX2_isOnce 89 = .ok (.iconst 0, 1) := dk_3 (dk_at dksX2_isOnce_3 19 rfl rfl)
theorem dX2_isOnce_90 : decode cX2_isOnce 90 = .ok (.ireturn, 1) := dk_172 (dk_at dksX2_isOnce_3 20 rfl rfl)
theorem dX2_isOnce_91 : decode cX2_isOnce 91 = .ok (.iload_n 1, 1) := dk_27 (dk_at dksX2_isOnce_3 21 rfl rfl)
theorem dX2_isOnce_92 : decode cX2_isOnce 92 = .ok (.iload 4, 2) := dk_21 4 (dk_at dksX2_isOnce_3 22 rfl rfl)
theorem dX2_isOnce_94 : decode cX2_isOnce 94 = .ok (.iadd, 1) := dk_96 (dk_at dksX2_isOnce_4 0 rfl rfl)
theorem dX2_isOnce_95 : decode cX2_isOnce 95 = .ok (.istore_n 1, 1) := dk_60 (dk_at dksX2_isOnce_4 1 rfl rfl)
theorem dX2_isOnce_96 : decode cX2_isOnce 96 = .ok (.iinc 3 1, 3) := dk_132 3 1 (dk_at dksX2_isOnce_4 2 rfl rfl)
theorem dX2_isOnce_99 : decode cX2_isOnce 99 = .ok (.goto (-85), 3) := dk_167 255 171 (dk_at dksX2_isOnce_4 5 rfl rfl)
theorem dX2_isOnce_102 : decode cX2_isOnce 102 = .ok (.iinc 2 1, 3) := dk_132 2 1 (dk_at dksX2_isOnce_4 8 rfl rfl)
theorem dX2_isOnce_105 : decode cX2_isOnce 105 = .ok (.goto (-101), 3) := dk_167 255 155 (dk_at dksX2_isOnce_4 11 rfl rfl)
theorem dX2_isOnce_108 : decode cX2_isOnce 108 = .ok (.iload_n 1, 1) := dk_27 (dk_at dksX2_isOnce_4 14 rfl rfl)
theorem dX2_isOnce_109 : decode cX2_isOnce 109 = .ok (.aload_n 0, 1) := dk_42 (dk_at dksX2_isOnce_4 15 rfl rfl)
theorem dX2_isOnce_110 : decode cX2_isOnce 110 = .ok (.iconst 1, 1) := dk_4 (dk_at dksX2_isOnce_4 16 rfl rfl)
theorem dX2_isOnce_111 : decode cX2_isOnce 111 = .ok (.invokevirtual 253, 3) := dk_182 0 253 (dk_at dksX2_isOnce_4 17 rfl rfl)
theorem dX2_isOnce_114 : decode cX2_isOnce 114 = .ok (.if_icmp .ne 7, 3) := dk_160 0 7 (dk_at dksX2_isOnce_4 20 rfl rfl)
theorem dX2_isOnce_117 : decode cX2_isOnce 117 = .ok (.iconst 1, 1) := dk_4 (dk_at dksX2_isOnce_4 23 rfl rfl)
theorem dX2_isOnce_118 : decode cX2_isOnce 118 = .ok (.goto 4, 3) := dk_167 0 4 (dk_at dksX2_isOnce_5 0 rfl rfl)
theorem dX2_isOnce_121 : decode cX2_isOnce 121 = .ok (.iconst 0, 1) := dk_3 (dk_at dksX2_isOnce_5 3 rfl rfl)
theorem dX2_isOnce_122 : decode cX2_isOnce 122 = .ok (.ireturn, 1) := dk_172 (dk_at dksX2_isOnce_5 4 rfl rfl)
abbrev cX2_boxes : ByteArray := prog_12_method_3_code
def yX2_boxes : MethodName := ⟨RX2, "boxes", "()I"⟩
def dkwX2_boxes_0 : List UInt8 := [42, 180, 0, 12, 185, 0, 65, 1, 0, 172]
abbrev dktX2_boxes_0 : List UInt8 := dkwX2_boxes_0 ++ []
theorem dksX2_boxes_0 : cX2_boxes.data.toList.drop 0 = dktX2_boxes_0 := by decide +kernel
theorem dX2_boxes_0 : decode cX2_boxes 0 = .ok (.aload_n 0, 1) := dk_42 (dk_at dksX2_boxes_0 0 rfl rfl)
theorem dX2_boxes_1 : decode cX2_boxes 1 = .ok (.getfield 12, 3) := dk_180 0 12 (dk_at dksX2_boxes_0 1 rfl rfl)
theorem dX2_boxes_4 : decode cX2_boxes 4 = .ok (.invokeinterface 65 1, 5) := by decide +kernel
theorem dX2_boxes_9 : decode cX2_boxes 9 = .ok (.ireturn, 1) := dk_172 (dk_at dksX2_boxes_0 9 rfl rfl)
abbrev cX2_letting : ByteArray := prog_12_method_6_code
def yX2_letting : MethodName := ⟨RX2, "letting", "(I)LBoxSpans$Letting;"⟩
def dkwX2_letting_0 : List UInt8 := [42, 180, 0, 18, 27, 185, 0, 69, 2, 0, 192, 0, 45, 176]
abbrev dktX2_letting_0 : List UInt8 := dkwX2_letting_0 ++ []
theorem dksX2_letting_0 : cX2_letting.data.toList.drop 0 = dktX2_letting_0 := by decide +kernel
theorem dX2_letting_0 : decode cX2_letting 0 = .ok (.aload_n 0, 1) := dk_42 (dk_at dksX2_letting_0 0 rfl rfl)
theorem dX2_letting_1 : decode cX2_letting 1 = .ok (.getfield 18, 3) := dk_180 0 18 (dk_at dksX2_letting_0 1 rfl rfl)
theorem dX2_letting_4 : decode cX2_letting 4 = .ok (.iload_n 1, 1) := dk_27 (dk_at dksX2_letting_0 4 rfl rfl)
theorem dX2_letting_5 : decode cX2_letting 5 = .ok (.invokeinterface 69 2, 5) := by decide +kernel
theorem dX2_letting_10 : decode cX2_letting 10 = .ok (.checkcast 45, 3) := dk_192 0 45 (dk_at dksX2_letting_0 10 rfl rfl)
theorem dX2_letting_13 : decode cX2_letting 13 = .ok (.areturn, 1) := dk_176 (dk_at dksX2_letting_0 13 rfl rfl)
abbrev cX2_ofAll : ByteArray := prog_12_method_36_code
def yX2_ofAll : MethodName := ⟨RX2, "ofAll", "(I)I"⟩
def dkwX2_ofAll_1 : List UInt8 := [167, 255, 236, 28, 172]
abbrev dktX2_ofAll_1 : List UInt8 := dkwX2_ofAll_1 ++ []
def dkwX2_ofAll_0 : List UInt8 := [3, 61, 3, 62, 29, 42, 182, 0, 78, 162, 0, 18, 28, 42, 29, 27, 182, 0, 246, 96, 61, 132, 3, 1]
abbrev dktX2_ofAll_0 : List UInt8 := dkwX2_ofAll_0 ++ dktX2_ofAll_1
theorem dksX2_ofAll_0 : cX2_ofAll.data.toList.drop 0 = dktX2_ofAll_0 := by decide +kernel
theorem dksX2_ofAll_1 : cX2_ofAll.data.toList.drop 24 = dktX2_ofAll_1 := dk_seg dksX2_ofAll_0 24 rfl rfl
theorem dX2_ofAll_0 : decode cX2_ofAll 0 = .ok (.iconst 0, 1) := dk_3 (dk_at dksX2_ofAll_0 0 rfl rfl)
theorem dX2_ofAll_1 : decode cX2_ofAll 1 = .ok (.istore_n 2, 1) := dk_61 (dk_at dksX2_ofAll_0 1 rfl rfl)
theorem dX2_ofAll_2 : decode cX2_ofAll 2 = .ok (.iconst 0, 1) := dk_3 (dk_at dksX2_ofAll_0 2 rfl rfl)
theorem dX2_ofAll_3 : decode cX2_ofAll 3 = .ok (.istore_n 3, 1) := dk_62 (dk_at dksX2_ofAll_0 3 rfl rfl)
theorem dX2_ofAll_4 : decode cX2_ofAll 4 = .ok (.iload_n 3, 1) := dk_29 (dk_at dksX2_ofAll_0 4 rfl rfl)
theorem dX2_ofAll_5 : decode cX2_ofAll 5 = .ok (.aload_n 0, 1) := dk_42 (dk_at dksX2_ofAll_0 5 rfl rfl)
theorem dX2_ofAll_6 : decode cX2_ofAll 6 = .ok (.invokevirtual 78, 3) := dk_182 0 78 (dk_at dksX2_ofAll_0 6 rfl rfl)
theorem dX2_ofAll_9 : decode cX2_ofAll 9 = .ok (.if_icmp .ge 18, 3) := dk_162 0 18 (dk_at dksX2_ofAll_0 9 rfl rfl)
theorem dX2_ofAll_12 : decode cX2_ofAll 12 = .ok (.iload_n 2, 1) := dk_28 (dk_at dksX2_ofAll_0 12 rfl rfl)
theorem dX2_ofAll_13 : decode cX2_ofAll 13 = .ok (.aload_n 0, 1) := dk_42 (dk_at dksX2_ofAll_0 13 rfl rfl)
theorem dX2_ofAll_14 : decode cX2_ofAll 14 = .ok (.iload_n 3, 1) := dk_29 (dk_at dksX2_ofAll_0 14 rfl rfl)
theorem dX2_ofAll_15 : decode cX2_ofAll 15 = .ok (.iload_n 1, 1) := dk_27 (dk_at dksX2_ofAll_0 15 rfl rfl)
theorem dX2_ofAll_16 : decode cX2_ofAll 16 = .ok (.invokevirtual 246, 3) := dk_182 0 246 (dk_at dksX2_ofAll_0 16 rfl rfl)
theorem dX2_ofAll_19 : decode cX2_ofAll 19 = .ok (.iadd, 1) := dk_96 (dk_at dksX2_ofAll_0 19 rfl rfl)
theorem dX2_ofAll_20 : decode cX2_ofAll 20 = .ok (.istore_n 2, 1) := dk_61 (dk_at dksX2_ofAll_0 20 rfl rfl)
theorem dX2_ofAll_21 : decode cX2_ofAll 21 = .ok (.iinc 3 1, 3) := dk_132 3 1 (dk_at dksX2_ofAll_0 21 rfl rfl)
theorem dX2_ofAll_24 : decode cX2_ofAll 24 = .ok (.goto (-20), 3) := dk_167 255 236 (dk_at dksX2_ofAll_1 0 rfl rfl)
theorem dX2_ofAll_27 : decode cX2_ofAll 27 = .ok (.iload_n 2, 1) := dk_28 (dk_at dksX2_ofAll_1 3 rfl rfl)
theorem dX2_ofAll_28 : decode cX2_ofAll 28 = .ok (.ireturn, 1) := dk_172 (dk_at dksX2_ofAll_1 4 rfl rfl)
abbrev cX2_ofBox : ByteArray := prog_12_method_35_code
def yX2_ofBox : MethodName := ⟨RX2, "ofBox", "(II)I"⟩
def dkwX2_ofBox_3 : List UInt8 := [182, 0, 93, 153, 0, 8, 21, 6, 167, 0, 4, 3, 96, 62, 167, 255, 188, 29, 172]
abbrev dktX2_ofBox_3 : List UInt8 := dkwX2_ofBox_3 ++ []
def dkwX2_ofBox_2 : List UInt8 := [160, 0, 11, 25, 5, 182, 0, 161, 167, 0, 8, 25, 5, 182, 0, 131, 54, 6, 29, 25, 5, 27]
abbrev dktX2_ofBox_2 : List UInt8 := dkwX2_ofBox_2 ++ dktX2_ofBox_3
def dkwX2_ofBox_1 : List UInt8 := [25, 4, 185, 0, 41, 1, 0, 192, 0, 45, 58, 5, 28, 154, 0, 7, 4, 167, 0, 21, 28, 4]
abbrev dktX2_ofBox_1 : List UInt8 := dkwX2_ofBox_1 ++ dktX2_ofBox_2
def dkwX2_ofBox_0 : List UInt8 := [3, 62, 42, 180, 0, 18, 185, 0, 31, 1, 0, 58, 4, 25, 4, 185, 0, 35, 1, 0, 153, 0, 64]
abbrev dktX2_ofBox_0 : List UInt8 := dkwX2_ofBox_0 ++ dktX2_ofBox_1
theorem dksX2_ofBox_0 : cX2_ofBox.data.toList.drop 0 = dktX2_ofBox_0 := by decide +kernel
theorem dksX2_ofBox_1 : cX2_ofBox.data.toList.drop 23 = dktX2_ofBox_1 := dk_seg dksX2_ofBox_0 23 rfl rfl
theorem dksX2_ofBox_2 : cX2_ofBox.data.toList.drop 45 = dktX2_ofBox_2 := dk_seg dksX2_ofBox_1 22 rfl rfl
theorem dksX2_ofBox_3 : cX2_ofBox.data.toList.drop 67 = dktX2_ofBox_3 := dk_seg dksX2_ofBox_2 22 rfl rfl
theorem dX2_ofBox_0 : decode cX2_ofBox 0 = .ok (.iconst 0, 1) := dk_3 (dk_at dksX2_ofBox_0 0 rfl rfl)
theorem dX2_ofBox_1 : decode cX2_ofBox 1 = .ok (.istore_n 3, 1) := dk_62 (dk_at dksX2_ofBox_0 1 rfl rfl)
theorem dX2_ofBox_2 : decode cX2_ofBox 2 = .ok (.aload_n 0, 1) := dk_42 (dk_at dksX2_ofBox_0 2 rfl rfl)
theorem dX2_ofBox_3 : decode cX2_ofBox 3 = .ok (.getfield 18, 3) := dk_180 0 18 (dk_at dksX2_ofBox_0 3 rfl rfl)
theorem dX2_ofBox_6 : decode cX2_ofBox 6 = .ok (.invokeinterface 31 1, 5) := by decide +kernel
theorem dX2_ofBox_11 : decode cX2_ofBox 11 = .ok (.astore 4, 2) := dk_58 4 (dk_at dksX2_ofBox_0 11 rfl rfl)
theorem dX2_ofBox_13 : decode cX2_ofBox 13 = .ok (.aload 4, 2) := dk_25 4 (dk_at dksX2_ofBox_0 13 rfl rfl)
theorem dX2_ofBox_15 : decode cX2_ofBox 15 = .ok (.invokeinterface 35 1, 5) := by decide +kernel
theorem dX2_ofBox_20 : decode cX2_ofBox 20 = .ok (.ifCond .eq 64, 3) := dk_153 0 64 (dk_at dksX2_ofBox_0 20 rfl rfl)
theorem dX2_ofBox_23 : decode cX2_ofBox 23 = .ok (.aload 4, 2) := dk_25 4 (dk_at dksX2_ofBox_1 0 rfl rfl)
theorem dX2_ofBox_25 : decode cX2_ofBox 25 = .ok (.invokeinterface 41 1, 5) := by decide +kernel
theorem dX2_ofBox_30 : decode cX2_ofBox 30 = .ok (.checkcast 45, 3) := dk_192 0 45 (dk_at dksX2_ofBox_1 7 rfl rfl)
theorem dX2_ofBox_33 : decode cX2_ofBox 33 = .ok (.astore 5, 2) := dk_58 5 (dk_at dksX2_ofBox_1 10 rfl rfl)
theorem dX2_ofBox_35 : decode cX2_ofBox 35 = .ok (.iload_n 2, 1) := dk_28 (dk_at dksX2_ofBox_1 12 rfl rfl)
theorem dX2_ofBox_36 : decode cX2_ofBox 36 = .ok (.ifCond .ne 7, 3) := dk_154 0 7 (dk_at dksX2_ofBox_1 13 rfl rfl)
theorem dX2_ofBox_39 : decode cX2_ofBox 39 = .ok (.iconst 1, 1) := dk_4 (dk_at dksX2_ofBox_1 16 rfl rfl)
theorem dX2_ofBox_40 : decode cX2_ofBox 40 = .ok (.goto 21, 3) := dk_167 0 21 (dk_at dksX2_ofBox_1 17 rfl rfl)
theorem dX2_ofBox_43 : decode cX2_ofBox 43 = .ok (.iload_n 2, 1) := dk_28 (dk_at dksX2_ofBox_1 20 rfl rfl)
theorem dX2_ofBox_44 : decode cX2_ofBox 44 = .ok (.iconst 1, 1) := dk_4 (dk_at dksX2_ofBox_1 21 rfl rfl)
theorem dX2_ofBox_45 : decode cX2_ofBox 45 = .ok (.if_icmp .ne 11, 3) := dk_160 0 11 (dk_at dksX2_ofBox_2 0 rfl rfl)
theorem dX2_ofBox_48 : decode cX2_ofBox 48 = .ok (.aload 5, 2) := dk_25 5 (dk_at dksX2_ofBox_2 3 rfl rfl)
theorem dX2_ofBox_50 : decode cX2_ofBox 50 = .ok (.invokevirtual 161, 3) := dk_182 0 161 (dk_at dksX2_ofBox_2 5 rfl rfl)
theorem dX2_ofBox_53 : decode cX2_ofBox 53 = .ok (.goto 8, 3) := dk_167 0 8 (dk_at dksX2_ofBox_2 8 rfl rfl)
theorem dX2_ofBox_56 : decode cX2_ofBox 56 = .ok (.aload 5, 2) := dk_25 5 (dk_at dksX2_ofBox_2 11 rfl rfl)
theorem dX2_ofBox_58 : decode cX2_ofBox 58 = .ok (.invokevirtual 131, 3) := dk_182 0 131 (dk_at dksX2_ofBox_2 13 rfl rfl)
theorem dX2_ofBox_61 : decode cX2_ofBox 61 = .ok (.istore 6, 2) := dk_54 6 (dk_at dksX2_ofBox_2 16 rfl rfl)
theorem dX2_ofBox_63 : decode cX2_ofBox 63 = .ok (.iload_n 3, 1) := dk_29 (dk_at dksX2_ofBox_2 18 rfl rfl)
theorem dX2_ofBox_64 : decode cX2_ofBox 64 = .ok (.aload 5, 2) := dk_25 5 (dk_at dksX2_ofBox_2 19 rfl rfl)
theorem dX2_ofBox_66 : decode cX2_ofBox 66 = .ok (.iload_n 1, 1) := dk_27 (dk_at dksX2_ofBox_2 21 rfl rfl)
theorem dX2_ofBox_67 : decode cX2_ofBox 67 = .ok (.invokevirtual 93, 3) := dk_182 0 93 (dk_at dksX2_ofBox_3 0 rfl rfl)
theorem dX2_ofBox_70 : decode cX2_ofBox 70 = .ok (.ifCond .eq 8, 3) := dk_153 0 8 (dk_at dksX2_ofBox_3 3 rfl rfl)
theorem dX2_ofBox_73 : decode cX2_ofBox 73 = .ok (.iload 6, 2) := dk_21 6 (dk_at dksX2_ofBox_3 6 rfl rfl)
theorem dX2_ofBox_75 : decode cX2_ofBox 75 = .ok (.goto 4, 3) := dk_167 0 4 (dk_at dksX2_ofBox_3 8 rfl rfl)
theorem dX2_ofBox_78 : decode cX2_ofBox 78 = .ok (.iconst 0, 1) := dk_3 (dk_at dksX2_ofBox_3 11 rfl rfl)
theorem dX2_ofBox_79 : decode cX2_ofBox 79 = .ok (.iadd, 1) := dk_96 (dk_at dksX2_ofBox_3 12 rfl rfl)
theorem dX2_ofBox_80 : decode cX2_ofBox 80 = .ok (.istore_n 3, 1) := dk_62 (dk_at dksX2_ofBox_3 13 rfl rfl)
theorem dX2_ofBox_81 : decode cX2_ofBox 81 = .ok (.goto (-68), 3) := dk_167 255 188 (dk_at dksX2_ofBox_3 14 rfl rfl)
theorem dX2_ofBox_84 : decode cX2_ofBox 84 = .ok (.iload_n 3, 1) := dk_29 (dk_at dksX2_ofBox_3 17 rfl rfl)
theorem dX2_ofBox_85 : decode cX2_ofBox 85 = .ok (.ireturn, 1) := dk_172 (dk_at dksX2_ofBox_3 18 rfl rfl)
abbrev cX2_opens : ByteArray := prog_12_method_11_code
def yX2_opens : MethodName := ⟨RX2, "opens", "(I)I"⟩
def dkwX2_opens_1 : List UInt8 := [184, 0, 85, 185, 0, 51, 2, 0, 87, 42, 182, 0, 78, 4, 100, 172]
abbrev dktX2_opens_1 : List UInt8 := dkwX2_opens_1 ++ []
def dkwX2_opens_0 : List UInt8 := [42, 182, 0, 78, 8, 162, 0, 7, 4, 167, 0, 4, 3, 4, 8, 184, 0, 81, 42, 180, 0, 12, 27]
abbrev dktX2_opens_0 : List UInt8 := dkwX2_opens_0 ++ dktX2_opens_1
theorem dksX2_opens_0 : cX2_opens.data.toList.drop 0 = dktX2_opens_0 := by decide +kernel
theorem dksX2_opens_1 : cX2_opens.data.toList.drop 23 = dktX2_opens_1 := dk_seg dksX2_opens_0 23 rfl rfl
theorem dX2_opens_0 : decode cX2_opens 0 = .ok (.aload_n 0, 1) := dk_42 (dk_at dksX2_opens_0 0 rfl rfl)
theorem dX2_opens_1 : decode cX2_opens 1 = .ok (.invokevirtual 78, 3) := dk_182 0 78 (dk_at dksX2_opens_0 1 rfl rfl)
theorem dX2_opens_4 : decode cX2_opens 4 = .ok (.iconst 5, 1) := dk_8 (dk_at dksX2_opens_0 4 rfl rfl)
theorem dX2_opens_5 : decode cX2_opens 5 = .ok (.if_icmp .ge 7, 3) := dk_162 0 7 (dk_at dksX2_opens_0 5 rfl rfl)
theorem dX2_opens_8 : decode cX2_opens 8 = .ok (.iconst 1, 1) := dk_4 (dk_at dksX2_opens_0 8 rfl rfl)
theorem dX2_opens_9 : decode cX2_opens 9 = .ok (.goto 4, 3) := dk_167 0 4 (dk_at dksX2_opens_0 9 rfl rfl)
theorem dX2_opens_12 : decode cX2_opens 12 = .ok (.iconst 0, 1) := dk_3 (dk_at dksX2_opens_0 12 rfl rfl)
theorem dX2_opens_13 : decode cX2_opens 13 = .ok (.iconst 1, 1) := dk_4 (dk_at dksX2_opens_0 13 rfl rfl)
theorem dX2_opens_14 : decode cX2_opens 14 = .ok (.iconst 5, 1) := dk_8 (dk_at dksX2_opens_0 14 rfl rfl)
theorem dX2_opens_15 : decode cX2_opens 15 = .ok (.invokestatic 81, 3) := dk_184 0 81 (dk_at dksX2_opens_0 15 rfl rfl)
theorem dX2_opens_18 : decode cX2_opens 18 = .ok (.aload_n 0, 1) := dk_42 (dk_at dksX2_opens_0 18 rfl rfl)
theorem dX2_opens_19 : decode cX2_opens 19 = .ok (.getfield 12, 3) := dk_180 0 12 (dk_at dksX2_opens_0 19 rfl rfl)
theorem dX2_opens_22 : decode cX2_opens 22 = .ok (.iload_n 1, 1) := dk_27 (dk_at dksX2_opens_0 22 rfl rfl)
theorem dX2_opens_23 : decode cX2_opens 23 = .ok (.invokestatic 85, 3) := dk_184 0 85 (dk_at dksX2_opens_1 0 rfl rfl)
theorem dX2_opens_26 : decode cX2_opens 26 = .ok (.invokeinterface 51 2, 5) := by decide +kernel
theorem dX2_opens_31 : decode cX2_opens 31 = .ok (.pop, 1) := dk_87 (dk_at dksX2_opens_1 8 rfl rfl)
theorem dX2_opens_32 : decode cX2_opens 32 = .ok (.aload_n 0, 1) := dk_42 (dk_at dksX2_opens_1 9 rfl rfl)
theorem dX2_opens_33 : decode cX2_opens 33 = .ok (.invokevirtual 78, 3) := dk_182 0 78 (dk_at dksX2_opens_1 10 rfl rfl)
theorem dX2_opens_36 : decode cX2_opens 36 = .ok (.iconst 1, 1) := dk_4 (dk_at dksX2_opens_1 13 rfl rfl)
theorem dX2_opens_37 : decode cX2_opens 37 = .ok (.isub, 1) := dk_100 (dk_at dksX2_opens_1 14 rfl rfl)
theorem dX2_opens_38 : decode cX2_opens 38 = .ok (.ireturn, 1) := dk_172 (dk_at dksX2_opens_1 15 rfl rfl)
abbrev cX2_copy : ByteArray := prog_12_method_2_code
def yX2_copy : MethodName := ⟨RX2, "copy", "()LBoxSpans$Theatre;"⟩
def dkwX2_copy_4 : List UInt8 := [180, 0, 59, 181, 0, 59, 43, 42, 180, 0, 62, 181, 0, 62, 43, 176]
abbrev dktX2_copy_4 : List UInt8 := dkwX2_copy_4 ++ []
def dkwX2_copy_3 : List UInt8 := [180, 0, 21, 42, 180, 0, 21, 185, 0, 25, 2, 0, 87, 43, 42, 180, 0, 55, 181, 0, 55, 43, 42]
abbrev dktX2_copy_3 : List UInt8 := dkwX2_copy_3 ++ dktX2_copy_4
def dkwX2_copy_2 : List UInt8 := [192, 0, 45, 78, 43, 180, 0, 18, 45, 182, 0, 47, 185, 0, 51, 2, 0, 87, 167, 255, 223, 43]
abbrev dktX2_copy_2 : List UInt8 := dkwX2_copy_2 ++ dktX2_copy_3
def dkwX2_copy_1 : List UInt8 := [180, 0, 18, 185, 0, 31, 1, 0, 77, 44, 185, 0, 35, 1, 0, 153, 0, 30, 44, 185, 0, 41, 1, 0]
abbrev dktX2_copy_1 : List UInt8 := dkwX2_copy_1 ++ dktX2_copy_2
def dkwX2_copy_0 : List UInt8 := [187, 0, 13, 89, 183, 0, 24, 76, 43, 180, 0, 12, 42, 180, 0, 12, 185, 0, 25, 2, 0, 87, 42]
abbrev dktX2_copy_0 : List UInt8 := dkwX2_copy_0 ++ dktX2_copy_1
theorem dksX2_copy_0 : cX2_copy.data.toList.drop 0 = dktX2_copy_0 := by decide +kernel
theorem dksX2_copy_1 : cX2_copy.data.toList.drop 23 = dktX2_copy_1 := dk_seg dksX2_copy_0 23 rfl rfl
theorem dksX2_copy_2 : cX2_copy.data.toList.drop 47 = dktX2_copy_2 := dk_seg dksX2_copy_1 24 rfl rfl
theorem dksX2_copy_3 : cX2_copy.data.toList.drop 69 = dktX2_copy_3 := dk_seg dksX2_copy_2 22 rfl rfl
theorem dksX2_copy_4 : cX2_copy.data.toList.drop 92 = dktX2_copy_4 := dk_seg dksX2_copy_3 23 rfl rfl
theorem dX2_copy_0 : decode cX2_copy 0 = .ok (.new 13, 3) := dk_187 0 13 (dk_at dksX2_copy_0 0 rfl rfl)
theorem dX2_copy_3 : decode cX2_copy 3 = .ok (.dup, 1) := dk_89 (dk_at dksX2_copy_0 3 rfl rfl)
theorem dX2_copy_4 : decode cX2_copy 4 = .ok (.invokespecial 24, 3) := dk_183 0 24 (dk_at dksX2_copy_0 4 rfl rfl)
theorem dX2_copy_7 : decode cX2_copy 7 = .ok (.astore_n 1, 1) := dk_76 (dk_at dksX2_copy_0 7 rfl rfl)
theorem dX2_copy_8 : decode cX2_copy 8 = .ok (.aload_n 1, 1) := dk_43 (dk_at dksX2_copy_0 8 rfl rfl)
theorem dX2_copy_9 : decode cX2_copy 9 = .ok (.getfield 12, 3) := dk_180 0 12 (dk_at dksX2_copy_0 9 rfl rfl)
theorem dX2_copy_12 : decode cX2_copy 12 = .ok (.aload_n 0, 1) := dk_42 (dk_at dksX2_copy_0 12 rfl rfl)
theorem dX2_copy_13 : decode cX2_copy 13 = .ok (.getfield 12, 3) := dk_180 0 12 (dk_at dksX2_copy_0 13 rfl rfl)
theorem dX2_copy_16 : decode cX2_copy 16 = .ok (.invokeinterface 25 2, 5) := by decide +kernel
theorem dX2_copy_21 : decode cX2_copy 21 = .ok (.pop, 1) := dk_87 (dk_at dksX2_copy_0 21 rfl rfl)
theorem dX2_copy_22 : decode cX2_copy 22 = .ok (.aload_n 0, 1) := dk_42 (dk_at dksX2_copy_0 22 rfl rfl)
theorem dX2_copy_23 : decode cX2_copy 23 = .ok (.getfield 18, 3) := dk_180 0 18 (dk_at dksX2_copy_1 0 rfl rfl)
theorem dX2_copy_26 : decode cX2_copy 26 = .ok (.invokeinterface 31 1, 5) := by decide +kernel
theorem dX2_copy_31 : decode cX2_copy 31 = .ok (.astore_n 2, 1) := dk_77 (dk_at dksX2_copy_1 8 rfl rfl)
theorem dX2_copy_32 : decode cX2_copy 32 = .ok (.aload_n 2, 1) := dk_44 (dk_at dksX2_copy_1 9 rfl rfl)
theorem dX2_copy_33 : decode cX2_copy 33 = .ok (.invokeinterface 35 1, 5) := by decide +kernel
theorem dX2_copy_38 : decode cX2_copy 38 = .ok (.ifCond .eq 30, 3) := dk_153 0 30 (dk_at dksX2_copy_1 15 rfl rfl)
theorem dX2_copy_41 : decode cX2_copy 41 = .ok (.aload_n 2, 1) := dk_44 (dk_at dksX2_copy_1 18 rfl rfl)
theorem dX2_copy_42 : decode cX2_copy 42 = .ok (.invokeinterface 41 1, 5) := by decide +kernel
theorem dX2_copy_47 : decode cX2_copy 47 = .ok (.checkcast 45, 3) := dk_192 0 45 (dk_at dksX2_copy_2 0 rfl rfl)
theorem dX2_copy_50 : decode cX2_copy 50 = .ok (.astore_n 3, 1) := dk_78 (dk_at dksX2_copy_2 3 rfl rfl)
theorem dX2_copy_51 : decode cX2_copy 51 = .ok (.aload_n 1, 1) := dk_43 (dk_at dksX2_copy_2 4 rfl rfl)
theorem dX2_copy_52 : decode cX2_copy 52 = .ok (.getfield 18, 3) := dk_180 0 18 (dk_at dksX2_copy_2 5 rfl rfl)
theorem dX2_copy_55 : decode cX2_copy 55 = .ok (.aload_n 3, 1) := dk_45 (dk_at dksX2_copy_2 8 rfl rfl)
theorem dX2_copy_56 : decode cX2_copy 56 = .ok (.invokevirtual 47, 3) := dk_182 0 47 (dk_at dksX2_copy_2 9 rfl rfl)
theorem dX2_copy_59 : decode cX2_copy 59 = .ok (.invokeinterface 51 2, 5) := by decide +kernel
theorem dX2_copy_64 : decode cX2_copy 64 = .ok (.pop, 1) := dk_87 (dk_at dksX2_copy_2 17 rfl rfl)
theorem dX2_copy_65 : decode cX2_copy 65 = .ok (.goto (-33), 3) := dk_167 255 223 (dk_at dksX2_copy_2 18 rfl rfl)
theorem dX2_copy_68 : decode cX2_copy 68 = .ok (.aload_n 1, 1) := dk_43 (dk_at dksX2_copy_2 21 rfl rfl)
theorem dX2_copy_69 : decode cX2_copy 69 = .ok (.getfield 21, 3) := dk_180 0 21 (dk_at dksX2_copy_3 0 rfl rfl)
theorem dX2_copy_72 : decode cX2_copy 72 = .ok (.aload_n 0, 1) := dk_42 (dk_at dksX2_copy_3 3 rfl rfl)
theorem dX2_copy_73 : decode cX2_copy 73 = .ok (.getfield 21, 3) := dk_180 0 21 (dk_at dksX2_copy_3 4 rfl rfl)
theorem dX2_copy_76 : decode cX2_copy 76 = .ok (.invokeinterface 25 2, 5) := by decide +kernel
theorem dX2_copy_81 : decode cX2_copy 81 = .ok (.pop, 1) := dk_87 (dk_at dksX2_copy_3 12 rfl rfl)
theorem dX2_copy_82 : decode cX2_copy 82 = .ok (.aload_n 1, 1) := dk_43 (dk_at dksX2_copy_3 13 rfl rfl)
theorem dX2_copy_83 : decode cX2_copy 83 = .ok (.aload_n 0, 1) := dk_42 (dk_at dksX2_copy_3 14 rfl rfl)
theorem dX2_copy_84 : decode cX2_copy 84 = .ok (.getfield 55, 3) := dk_180 0 55 (dk_at dksX2_copy_3 15 rfl rfl)
theorem dX2_copy_87 : decode cX2_copy 87 = .ok (.putfield 55, 3) := dk_181 0 55 (dk_at dksX2_copy_3 18 rfl rfl)
theorem dX2_copy_90 : decode cX2_copy 90 = .ok (.aload_n 1, 1) := dk_43 (dk_at dksX2_copy_3 21 rfl rfl)
theorem dX2_copy_91 : decode cX2_copy 91 = .ok (.aload_n 0, 1) := dk_42 (dk_at dksX2_copy_3 22 rfl rfl)
theorem dX2_copy_92 : decode cX2_copy 92 = .ok (.getfield 59, 3) := dk_180 0 59 (dk_at dksX2_copy_4 0 rfl rfl)
theorem dX2_copy_95 : decode cX2_copy 95 = .ok (.putfield 59, 3) := dk_181 0 59 (dk_at dksX2_copy_4 3 rfl rfl)
theorem dX2_copy_98 : decode cX2_copy 98 = .ok (.aload_n 1, 1) := dk_43 (dk_at dksX2_copy_4 6 rfl rfl)
theorem dX2_copy_99 : decode cX2_copy 99 = .ok (.aload_n 0, 1) := dk_42 (dk_at dksX2_copy_4 7 rfl rfl)
theorem dX2_copy_100 : decode cX2_copy 100 = .ok (.getfield 62, 3) := dk_180 0 62 (dk_at dksX2_copy_4 8 rfl rfl)
theorem dX2_copy_103 : decode cX2_copy 103 = .ok (.putfield 62, 3) := dk_181 0 62 (dk_at dksX2_copy_4 11 rfl rfl)
theorem dX2_copy_106 : decode cX2_copy 106 = .ok (.aload_n 1, 1) := dk_43 (dk_at dksX2_copy_4 14 rfl rfl)
theorem dX2_copy_107 : decode cX2_copy 107 = .ok (.areturn, 1) := dk_176 (dk_at dksX2_copy_4 15 rfl rfl)
abbrev cX2_lets : ByteArray := prog_12_method_15_code
def yX2_lets : MethodName := ⟨RX2, "lets", "(IILBoxSpans$Span;)I"⟩
def dkwX2_lets_1 : List UInt8 := [27, 45, 2, 182, 0, 113, 42, 187, 0, 45, 89, 27, 28, 45, 183, 0, 117, 182, 0, 120, 172]
abbrev dktX2_lets_1 : List UInt8 := dkwX2_lets_1 ++ []
def dkwX2_lets_0 : List UInt8 := [28, 42, 27, 182, 0, 110, 163, 0, 7, 4, 167, 0, 4, 3, 5, 42, 27, 182, 0, 110, 184, 0, 81, 42]
abbrev dktX2_lets_0 : List UInt8 := dkwX2_lets_0 ++ dktX2_lets_1
theorem dksX2_lets_0 : cX2_lets.data.toList.drop 0 = dktX2_lets_0 := by decide +kernel
theorem dksX2_lets_1 : cX2_lets.data.toList.drop 24 = dktX2_lets_1 := dk_seg dksX2_lets_0 24 rfl rfl
theorem dX2_lets_0 : decode cX2_lets 0 = .ok (.iload_n 2, 1) := dk_28 (dk_at dksX2_lets_0 0 rfl rfl)
theorem dX2_lets_1 : decode cX2_lets 1 = .ok (.aload_n 0, 1) := dk_42 (dk_at dksX2_lets_0 1 rfl rfl)
theorem dX2_lets_2 : decode cX2_lets 2 = .ok (.iload_n 1, 1) := dk_27 (dk_at dksX2_lets_0 2 rfl rfl)
theorem dX2_lets_3 : decode cX2_lets 3 = .ok (.invokevirtual 110, 3) := dk_182 0 110 (dk_at dksX2_lets_0 3 rfl rfl)
theorem dX2_lets_6 : decode cX2_lets 6 = .ok (.if_icmp .gt 7, 3) := dk_163 0 7 (dk_at dksX2_lets_0 6 rfl rfl)
theorem dX2_lets_9 : decode cX2_lets 9 = .ok (.iconst 1, 1) := dk_4 (dk_at dksX2_lets_0 9 rfl rfl)
theorem dX2_lets_10 : decode cX2_lets 10 = .ok (.goto 4, 3) := dk_167 0 4 (dk_at dksX2_lets_0 10 rfl rfl)
theorem dX2_lets_13 : decode cX2_lets 13 = .ok (.iconst 0, 1) := dk_3 (dk_at dksX2_lets_0 13 rfl rfl)
theorem dX2_lets_14 : decode cX2_lets 14 = .ok (.iconst 2, 1) := dk_5 (dk_at dksX2_lets_0 14 rfl rfl)
theorem dX2_lets_15 : decode cX2_lets 15 = .ok (.aload_n 0, 1) := dk_42 (dk_at dksX2_lets_0 15 rfl rfl)
theorem dX2_lets_16 : decode cX2_lets 16 = .ok (.iload_n 1, 1) := dk_27 (dk_at dksX2_lets_0 16 rfl rfl)
theorem dX2_lets_17 : decode cX2_lets 17 = .ok (.invokevirtual 110, 3) := dk_182 0 110 (dk_at dksX2_lets_0 17 rfl rfl)
theorem dX2_lets_20 : decode cX2_lets 20 = .ok (.invokestatic 81, 3) := dk_184 0 81 (dk_at dksX2_lets_0 20 rfl rfl)
theorem dX2_lets_23 : decode cX2_lets 23 = .ok (.aload_n 0, 1) := dk_42 (dk_at dksX2_lets_0 23 rfl rfl)
theorem dX2_lets_24 : decode cX2_lets 24 = .ok (.iload_n 1, 1) := dk_27 (dk_at dksX2_lets_1 0 rfl rfl)
theorem dX2_lets_25 : decode cX2_lets 25 = .ok (.aload_n 3, 1) := dk_45 (dk_at dksX2_lets_1 1 rfl rfl)
theorem dX2_lets_26 : decode cX2_lets 26 = .ok (.iconst (-1), 1) := dk_2 (dk_at dksX2_lets_1 2 rfl rfl)
theorem dX2_lets_27 : decode cX2_lets 27 = .ok (.invokevirtual 113, 3) := dk_182 0 113 (dk_at dksX2_lets_1 3 rfl rfl)
theorem dX2_lets_30 : decode cX2_lets 30 = .ok (.aload_n 0, 1) := dk_42 (dk_at dksX2_lets_1 6 rfl rfl)
theorem dX2_lets_31 : decode cX2_lets 31 = .ok (.new 45, 3) := dk_187 0 45 (dk_at dksX2_lets_1 7 rfl rfl)
theorem dX2_lets_34 : decode cX2_lets 34 = .ok (.dup, 1) := dk_89 (dk_at dksX2_lets_1 10 rfl rfl)
theorem dX2_lets_35 : decode cX2_lets 35 = .ok (.iload_n 1, 1) := dk_27 (dk_at dksX2_lets_1 11 rfl rfl)
theorem dX2_lets_36 : decode cX2_lets 36 = .ok (.iload_n 2, 1) := dk_28 (dk_at dksX2_lets_1 12 rfl rfl)
theorem dX2_lets_37 : decode cX2_lets 37 = .ok (.aload_n 3, 1) := dk_45 (dk_at dksX2_lets_1 13 rfl rfl)
theorem dX2_lets_38 : decode cX2_lets 38 = .ok (.invokespecial 117, 3) := dk_183 0 117 (dk_at dksX2_lets_1 14 rfl rfl)
theorem dX2_lets_41 : decode cX2_lets 41 = .ok (.invokevirtual 120, 3) := dk_182 0 120 (dk_at dksX2_lets_1 17 rfl rfl)
theorem dX2_lets_44 : decode cX2_lets 44 = .ok (.ireturn, 1) := dk_172 (dk_at dksX2_lets_1 20 rfl rfl)
abbrev cX2_seats : ByteArray := prog_12_method_4_code
def yX2_seats : MethodName := ⟨RX2, "seats", "(I)I"⟩
def dkwX2_seats_0 : List UInt8 := [42, 180, 0, 12, 27, 185, 0, 69, 2, 0, 192, 0, 73, 182, 0, 75, 172]
abbrev dktX2_seats_0 : List UInt8 := dkwX2_seats_0 ++ []
theorem dksX2_seats_0 : cX2_seats.data.toList.drop 0 = dktX2_seats_0 := by decide +kernel
theorem dX2_seats_0 : decode cX2_seats 0 = .ok (.aload_n 0, 1) := dk_42 (dk_at dksX2_seats_0 0 rfl rfl)
theorem dX2_seats_1 : decode cX2_seats 1 = .ok (.getfield 12, 3) := dk_180 0 12 (dk_at dksX2_seats_0 1 rfl rfl)
theorem dX2_seats_4 : decode cX2_seats 4 = .ok (.iload_n 1, 1) := dk_27 (dk_at dksX2_seats_0 4 rfl rfl)
theorem dX2_seats_5 : decode cX2_seats 5 = .ok (.invokeinterface 69 2, 5) := by decide +kernel
theorem dX2_seats_10 : decode cX2_seats 10 = .ok (.checkcast 73, 3) := dk_192 0 73 (dk_at dksX2_seats_0 10 rfl rfl)
theorem dX2_seats_13 : decode cX2_seats 13 = .ok (.invokevirtual 75, 3) := dk_182 0 75 (dk_at dksX2_seats_0 13 rfl rfl)
theorem dX2_seats_16 : decode cX2_seats 16 = .ok (.ireturn, 1) := dk_172 (dk_at dksX2_seats_0 16 rfl rfl)
abbrev cX2_checkFree : ByteArray := prog_12_method_13_code
def yX2_checkFree : MethodName := ⟨RX2, "checkFree", "(ILBoxSpans$Timed;I)V"⟩
def dkwX2_checkFree_1 : List UInt8 := [184, 0, 81, 177]
abbrev dktX2_checkFree_1 : List UInt8 := dkwX2_checkFree_1 ++ []
def dkwX2_checkFree_0 : List UInt8 := [42, 27, 44, 29, 182, 0, 106, 54, 4, 21, 4, 2, 160, 0, 7, 4, 167, 0, 4, 3, 6, 21, 4]
abbrev dktX2_checkFree_0 : List UInt8 := dkwX2_checkFree_0 ++ dktX2_checkFree_1
theorem dksX2_checkFree_0 : cX2_checkFree.data.toList.drop 0 = dktX2_checkFree_0 := by decide +kernel
theorem dksX2_checkFree_1 : cX2_checkFree.data.toList.drop 23 = dktX2_checkFree_1 := dk_seg dksX2_checkFree_0 23 rfl rfl
theorem dX2_checkFree_0 : decode cX2_checkFree 0 = .ok (.aload_n 0, 1) := dk_42 (dk_at dksX2_checkFree_0 0 rfl rfl)
theorem dX2_checkFree_1 : decode cX2_checkFree 1 = .ok (.iload_n 1, 1) := dk_27 (dk_at dksX2_checkFree_0 1 rfl rfl)
theorem dX2_checkFree_2 : decode cX2_checkFree 2 = .ok (.aload_n 2, 1) := dk_44 (dk_at dksX2_checkFree_0 2 rfl rfl)
theorem dX2_checkFree_3 : decode cX2_checkFree 3 = .ok (.iload_n 3, 1) := dk_29 (dk_at dksX2_checkFree_0 3 rfl rfl)
theorem dX2_checkFree_4 : decode cX2_checkFree 4 = .ok (.invokevirtual 106, 3) := dk_182 0 106 (dk_at dksX2_checkFree_0 4 rfl rfl)
theorem dX2_checkFree_7 : decode cX2_checkFree 7 = .ok (.istore 4, 2) := dk_54 4 (dk_at dksX2_checkFree_0 7 rfl rfl)
theorem dX2_checkFree_9 : decode cX2_checkFree 9 = .ok (.iload 4, 2) := dk_21 4 (dk_at dksX2_checkFree_0 9 rfl rfl)
theorem dX2_checkFree_11 : decode cX2_checkFree 11 = .ok (.iconst (-1), 1) := dk_2 (dk_at dksX2_checkFree_0 11 rfl rfl)
theorem dX2_checkFree_12 : decode cX2_checkFree 12 = .ok (.if_icmp .ne 7, 3) := dk_160 0 7 (dk_at dksX2_checkFree_0 12 rfl rfl)
theorem dX2_checkFree_15 : decode cX2_checkFree 15 = .ok (.iconst 1, 1) := dk_4 (dk_at dksX2_checkFree_0 15 rfl rfl)
theorem dX2_checkFree_16 : decode cX2_checkFree 16 = .ok (.goto 4, 3) := dk_167 0 4 (dk_at dksX2_checkFree_0 16 rfl rfl)
theorem dX2_checkFree_19 : decode cX2_checkFree 19 = .ok (.iconst 0, 1) := dk_3 (dk_at dksX2_checkFree_0 19 rfl rfl)
theorem dX2_checkFree_20 : decode cX2_checkFree 20 = .ok (.iconst 3, 1) := dk_6 (dk_at dksX2_checkFree_0 20 rfl rfl)
theorem dX2_checkFree_21 : decode cX2_checkFree 21 = .ok (.iload 4, 2) := dk_21 4 (dk_at dksX2_checkFree_0 21 rfl rfl)
theorem dX2_checkFree_23 : decode cX2_checkFree 23 = .ok (.invokestatic 81, 3) := dk_184 0 81 (dk_at dksX2_checkFree_1 0 rfl rfl)
theorem dX2_checkFree_26 : decode cX2_checkFree 26 = .ok (.return_, 1) := dk_177 (dk_at dksX2_checkFree_1 3 rfl rfl)
abbrev cX2_overlapping : ByteArray := prog_12_method_12_code
def yX2_overlapping : MethodName := ⟨RX2, "overlapping", "(ILBoxSpans$Timed;I)I"⟩
def dkwX2_overlapping_4 : List UInt8 := [167, 0, 5, 21, 4, 54, 4, 132, 5, 1, 167, 255, 159, 21, 4, 172]
abbrev dktX2_overlapping_4 : List UInt8 := dkwX2_overlapping_4 ++ []
def dkwX2_overlapping_3 : List UInt8 := [42, 21, 5, 182, 0, 89, 182, 0, 103, 42, 21, 4, 182, 0, 89, 182, 0, 103, 162, 0, 8, 21, 5]
abbrev dktX2_overlapping_3 : List UInt8 := dkwX2_overlapping_3 ++ dktX2_overlapping_4
def dkwX2_overlapping_2 : List UInt8 := [184, 0, 97, 153, 0, 7, 4, 167, 0, 4, 3, 54, 6, 21, 6, 153, 0, 35, 21, 4, 2, 159, 0, 24]
abbrev dktX2_overlapping_2 : List UInt8 := dkwX2_overlapping_2 ++ dktX2_overlapping_3
def dkwX2_overlapping_1 : List UInt8 := [159, 0, 33, 42, 21, 5, 182, 0, 89, 27, 182, 0, 93, 153, 0, 20, 42, 21, 5, 182, 0, 89, 44]
abbrev dktX2_overlapping_1 : List UInt8 := dkwX2_overlapping_1 ++ dktX2_overlapping_2
def dkwX2_overlapping_0 : List UInt8 := [2, 54, 4, 3, 54, 5, 21, 5, 42, 180, 0, 18, 185, 0, 65, 1, 0, 162, 0, 89, 21, 5, 29]
abbrev dktX2_overlapping_0 : List UInt8 := dkwX2_overlapping_0 ++ dktX2_overlapping_1
theorem dksX2_overlapping_0 : cX2_overlapping.data.toList.drop 0 = dktX2_overlapping_0 := by decide +kernel
theorem dksX2_overlapping_1 : cX2_overlapping.data.toList.drop 23 = dktX2_overlapping_1 := dk_seg dksX2_overlapping_0 23 rfl rfl
theorem dksX2_overlapping_2 : cX2_overlapping.data.toList.drop 46 = dktX2_overlapping_2 := dk_seg dksX2_overlapping_1 23 rfl rfl
theorem dksX2_overlapping_3 : cX2_overlapping.data.toList.drop 70 = dktX2_overlapping_3 := dk_seg dksX2_overlapping_2 24 rfl rfl
theorem dksX2_overlapping_4 : cX2_overlapping.data.toList.drop 93 = dktX2_overlapping_4 := dk_seg dksX2_overlapping_3 23 rfl rfl
theorem dX2_overlapping_0 : decode cX2_overlapping 0 = .ok (.iconst (-1), 1) := dk_2 (dk_at dksX2_overlapping_0 0 rfl rfl)
theorem dX2_overlapping_1 : decode cX2_overlapping 1 = .ok (.istore 4, 2) := dk_54 4 (dk_at dksX2_overlapping_0 1 rfl rfl)
theorem dX2_overlapping_3 : decode cX2_overlapping 3 = .ok (.iconst 0, 1) := dk_3 (dk_at dksX2_overlapping_0 3 rfl rfl)
theorem dX2_overlapping_4 : decode cX2_overlapping 4 = .ok (.istore 5, 2) := dk_54 5 (dk_at dksX2_overlapping_0 4 rfl rfl)
theorem dX2_overlapping_6 : decode cX2_overlapping 6 = .ok (.iload 5, 2) := dk_21 5 (dk_at dksX2_overlapping_0 6 rfl rfl)
theorem dX2_overlapping_8 : decode cX2_overlapping 8 = .ok (.aload_n 0, 1) := dk_42 (dk_at dksX2_overlapping_0 8 rfl rfl)
theorem dX2_overlapping_9 : decode cX2_overlapping 9 = .ok (.getfield 18, 3) := dk_180 0 18 (dk_at dksX2_overlapping_0 9 rfl rfl)
theorem dX2_overlapping_12 : decode cX2_overlapping 12 = .ok (.invokeinterface 65 1, 5) := by decide +kernel
theorem dX2_overlapping_17 : decode cX2_overlapping 17 = .ok (.if_icmp .ge 89, 3) := dk_162 0 89 (dk_at dksX2_overlapping_0 17 rfl rfl)
theorem dX2_overlapping_20 : decode cX2_overlapping 20 = .ok (.iload 5, 2) := dk_21 5 (dk_at dksX2_overlapping_0 20 rfl rfl)
theorem dX2_overlapping_22 : decode cX2_overlapping 22 = .ok (.iload_n 3, 1) := dk_29 (dk_at dksX2_overlapping_0 22 rfl rfl)
theorem dX2_overlapping_23 : decode cX2_overlapping 23 = .ok (.if_icmp .eq 33, 3) := dk_159 0 33 (dk_at dksX2_overlapping_1 0 rfl rfl)
theorem dX2_overlapping_26 : decode cX2_overlapping 26 = .ok (.aload_n 0, 1) := dk_42 (dk_at dksX2_overlapping_1 3 rfl rfl)
theorem dX2_overlapping_27 : decode cX2_overlapping 27 = .ok (.iload 5, 2) := dk_21 5 (dk_at dksX2_overlapping_1 4 rfl rfl)
theorem dX2_overlapping_29 : decode cX2_overlapping 29 = .ok (.invokevirtual 89, 3) := dk_182 0 89 (dk_at dksX2_overlapping_1 6 rfl rfl)
theorem dX2_overlapping_32 : decode cX2_overlapping 32 = .ok (.iload_n 1, 1) := dk_27 (dk_at dksX2_overlapping_1 9 rfl rfl)
theorem dX2_overlapping_33 : decode cX2_overlapping 33 = .ok (.invokevirtual 93, 3) := dk_182 0 93 (dk_at dksX2_overlapping_1 10 rfl rfl)
theorem dX2_overlapping_36 : decode cX2_overlapping 36 = .ok (.ifCond .eq 20, 3) := dk_153 0 20 (dk_at dksX2_overlapping_1 13 rfl rfl)
theorem dX2_overlapping_39 : decode cX2_overlapping 39 = .ok (.aload_n 0, 1) := dk_42 (dk_at dksX2_overlapping_1 16 rfl rfl)
theorem dX2_overlapping_40 : decode cX2_overlapping 40 = .ok (.iload 5, 2) := dk_21 5 (dk_at dksX2_overlapping_1 17 rfl rfl)
theorem dX2_overlapping_42 : decode cX2_overlapping 42 = .ok (.invokevirtual 89, 3) := dk_182 0 89 (dk_at dksX2_overlapping_1 19 rfl rfl)
theorem dX2_overlapping_45 : decode cX2_overlapping 45 = .ok (.aload_n 2, 1) := dk_44 (dk_at dksX2_overlapping_1 22 rfl rfl)
theorem dX2_overlapping_46 : decode cX2_overlapping 46 = .ok (.invokestatic 97, 3) := dk_184 0 97 (dk_at dksX2_overlapping_2 0 rfl rfl)
theorem dX2_overlapping_49 : decode cX2_overlapping 49 = .ok (.ifCond .eq 7, 3) := dk_153 0 7 (dk_at dksX2_overlapping_2 3 rfl rfl)
theorem dX2_overlapping_52 : decode cX2_overlapping 52 = .ok (.iconst 1, 1) := dk_4 (dk_at dksX2_overlapping_2 6 rfl rfl)
theorem dX2_overlapping_53 : decode cX2_overlapping 53 = .ok (.goto 4, 3) := dk_167 0 4 (dk_at dksX2_overlapping_2 7 rfl rfl)
theorem dX2_overlapping_56 : decode cX2_overlapping 56 = .ok (.iconst 0, 1) := dk_3 (dk_at dksX2_overlapping_2 10 rfl rfl)
theorem dX2_overlapping_57 : decode cX2_overlapping 57 = .ok (.istore 6, 2) := dk_54 6 (dk_at dksX2_overlapping_2 11 rfl rfl)
theorem dX2_overlapping_59 : decode cX2_overlapping 59 = .ok (.iload 6, 2) := dk_21 6 (dk_at dksX2_overlapping_2 13 rfl rfl)
theorem dX2_overlapping_61 : decode cX2_overlapping 61 = .ok (.ifCond .eq 35, 3) := dk_153 0 35 (dk_at dksX2_overlapping_2 15 rfl rfl)
theorem dX2_overlapping_64 : decode cX2_overlapping 64 = .ok (.iload 4, 2) := dk_21 4 (dk_at dksX2_overlapping_2 18 rfl rfl)
theorem dX2_overlapping_66 : decode cX2_overlapping 66 = .ok (.iconst (-1), 1) := dk_2 (dk_at dksX2_overlapping_2 20 rfl rfl)
theorem dX2_overlapping_67 : decode cX2_overlapping 67 = .ok (.if_icmp .eq 24, 3) := dk_159 0 24 (dk_at dksX2_overlapping_2 21 rfl rfl)
theorem dX2_overlapping_70 : decode cX2_overlapping 70 = .ok (.aload_n 0, 1) := dk_42 (dk_at dksX2_overlapping_3 0 rfl rfl)
theorem dX2_overlapping_71 : decode cX2_overlapping 71 = .ok (.iload 5, 2) := dk_21 5 (dk_at dksX2_overlapping_3 1 rfl rfl)
theorem dX2_overlapping_73 : decode cX2_overlapping 73 = .ok (.invokevirtual 89, 3) := dk_182 0 89 (dk_at dksX2_overlapping_3 3 rfl rfl)
theorem dX2_overlapping_76 : decode cX2_overlapping 76 = .ok (.invokevirtual 103, 3) := dk_182 0 103 (dk_at dksX2_overlapping_3 6 rfl rfl)
theorem dX2_overlapping_79 : decode cX2_overlapping 79 = .ok (.aload_n 0, 1) := dk_42 (dk_at dksX2_overlapping_3 9 rfl rfl)
theorem dX2_overlapping_80 : decode cX2_overlapping 80 = .ok (.iload 4, 2) := dk_21 4 (dk_at dksX2_overlapping_3 10 rfl rfl)
theorem dX2_overlapping_82 : decode cX2_overlapping 82 = .ok (.invokevirtual 89, 3) := dk_182 0 89 (dk_at dksX2_overlapping_3 12 rfl rfl)
theorem dX2_overlapping_85 : decode cX2_overlapping 85 = .ok (.invokevirtual 103, 3) := dk_182 0 103 (dk_at dksX2_overlapping_3 15 rfl rfl)
theorem dX2_overlapping_88 : decode cX2_overlapping 88 = .ok (.if_icmp .ge 8, 3) := dk_162 0 8 (dk_at dksX2_overlapping_3 18 rfl rfl)
theorem dX2_overlapping_91 : decode cX2_overlapping 91 = .ok (.iload 5, 2) := dk_21 5 (dk_at dksX2_overlapping_3 21 rfl rfl)
theorem dX2_overlapping_93 : decode cX2_overlapping 93 = .ok (.goto 5, 3) := dk_167 0 5 (dk_at dksX2_overlapping_4 0 rfl rfl)
theorem dX2_overlapping_96 : decode cX2_overlapping 96 = .ok (.iload 4, 2) := dk_21 4 (dk_at dksX2_overlapping_4 3 rfl rfl)
theorem dX2_overlapping_98 : decode cX2_overlapping 98 = .ok (.istore 4, 2) := dk_54 4 (dk_at dksX2_overlapping_4 5 rfl rfl)
theorem dX2_overlapping_100 : decode cX2_overlapping 100 = .ok (.iinc 5 1, 3) := dk_132 5 1 (dk_at dksX2_overlapping_4 7 rfl rfl)
theorem dX2_overlapping_103 : decode cX2_overlapping 103 = .ok (.goto (-97), 3) := dk_167 255 159 (dk_at dksX2_overlapping_4 10 rfl rfl)
theorem dX2_overlapping_106 : decode cX2_overlapping 106 = .ok (.iload 4, 2) := dk_21 4 (dk_at dksX2_overlapping_4 13 rfl rfl)
theorem dX2_overlapping_108 : decode cX2_overlapping 108 = .ok (.ireturn, 1) := dk_172 (dk_at dksX2_overlapping_4 15 rfl rfl)
abbrev cX2_makes : ByteArray := prog_12_method_14_code
def yX2_makes : MethodName := ⟨RX2, "makes", "(LBoxSpans$Letting;)I"⟩
def dkwX2_makes_2 : List UInt8 := [100, 172]
abbrev dktX2_makes_2 : List UInt8 := dkwX2_makes_2 ++ []
def dkwX2_makes_1 : List UInt8 := [184, 0, 81, 42, 180, 0, 18, 43, 185, 0, 51, 2, 0, 87, 42, 180, 0, 18, 185, 0, 65, 1, 0, 4]
abbrev dktX2_makes_1 : List UInt8 := dkwX2_makes_1 ++ dktX2_makes_2
def dkwX2_makes_0 : List UInt8 := [42, 180, 0, 18, 185, 0, 65, 1, 0, 16, 30, 162, 0, 7, 4, 167, 0, 4, 3, 4, 16, 30]
abbrev dktX2_makes_0 : List UInt8 := dkwX2_makes_0 ++ dktX2_makes_1
theorem dksX2_makes_0 : cX2_makes.data.toList.drop 0 = dktX2_makes_0 := by decide +kernel
theorem dksX2_makes_1 : cX2_makes.data.toList.drop 22 = dktX2_makes_1 := dk_seg dksX2_makes_0 22 rfl rfl
theorem dksX2_makes_2 : cX2_makes.data.toList.drop 46 = dktX2_makes_2 := dk_seg dksX2_makes_1 24 rfl rfl
theorem dX2_makes_0 : decode cX2_makes 0 = .ok (.aload_n 0, 1) := dk_42 (dk_at dksX2_makes_0 0 rfl rfl)
theorem dX2_makes_1 : decode cX2_makes 1 = .ok (.getfield 18, 3) := dk_180 0 18 (dk_at dksX2_makes_0 1 rfl rfl)
theorem dX2_makes_4 : decode cX2_makes 4 = .ok (.invokeinterface 65 1, 5) := by decide +kernel
theorem dX2_makes_9 : decode cX2_makes 9 = .ok (.bipush 30, 2) := dk_16 30 (dk_at dksX2_makes_0 9 rfl rfl)
theorem dX2_makes_11 : decode cX2_makes 11 = .ok (.if_icmp .ge 7, 3) := dk_162 0 7 (dk_at dksX2_makes_0 11 rfl rfl)
theorem dX2_makes_14 : decode cX2_makes 14 = .ok (.iconst 1, 1) := dk_4 (dk_at dksX2_makes_0 14 rfl rfl)
theorem dX2_makes_15 : decode cX2_makes 15 = .ok (.goto 4, 3) := dk_167 0 4 (dk_at dksX2_makes_0 15 rfl rfl)
theorem dX2_makes_18 : decode cX2_makes 18 = .ok (.iconst 0, 1) := dk_3 (dk_at dksX2_makes_0 18 rfl rfl)
theorem dX2_makes_19 : decode cX2_makes 19 = .ok (.iconst 1, 1) := dk_4 (dk_at dksX2_makes_0 19 rfl rfl)
theorem dX2_makes_20 : decode cX2_makes 20 = .ok (.bipush 30, 2) := dk_16 30 (dk_at dksX2_makes_0 20 rfl rfl)
theorem dX2_makes_22 : decode cX2_makes 22 = .ok (.invokestatic 81, 3) := dk_184 0 81 (dk_at dksX2_makes_1 0 rfl rfl)
theorem dX2_makes_25 : decode cX2_makes 25 = .ok (.aload_n 0, 1) := dk_42 (dk_at dksX2_makes_1 3 rfl rfl)
theorem dX2_makes_26 : decode cX2_makes 26 = .ok (.getfield 18, 3) := dk_180 0 18 (dk_at dksX2_makes_1 4 rfl rfl)
theorem dX2_makes_29 : decode cX2_makes 29 = .ok (.aload_n 1, 1) := dk_43 (dk_at dksX2_makes_1 7 rfl rfl)
theorem dX2_makes_30 : decode cX2_makes 30 = .ok (.invokeinterface 51 2, 5) := by decide +kernel
theorem dX2_makes_35 : decode cX2_makes 35 = .ok (.pop, 1) := dk_87 (dk_at dksX2_makes_1 13 rfl rfl)
theorem dX2_makes_36 : decode cX2_makes 36 = .ok (.aload_n 0, 1) := dk_42 (dk_at dksX2_makes_1 14 rfl rfl)
theorem dX2_makes_37 : decode cX2_makes 37 = .ok (.getfield 18, 3) := dk_180 0 18 (dk_at dksX2_makes_1 15 rfl rfl)
theorem dX2_makes_40 : decode cX2_makes 40 = .ok (.invokeinterface 65 1, 5) := by decide +kernel
theorem dX2_makes_45 : decode cX2_makes 45 = .ok (.iconst 1, 1) := dk_4 (dk_at dksX2_makes_1 23 rfl rfl)
theorem dX2_makes_46 : decode cX2_makes 46 = .ok (.isub, 1) := dk_100 (dk_at dksX2_makes_2 0 rfl rfl)
theorem dX2_makes_47 : decode cX2_makes 47 = .ok (.ireturn, 1) := dk_172 (dk_at dksX2_makes_2 1 rfl rfl)
abbrev cX2_lettings : ByteArray := prog_12_method_5_code
def yX2_lettings : MethodName := ⟨RX2, "lettings", "()Ljava/util/List;"⟩
theorem dX2_lettings_0 : decode cX2_lettings 0 = .ok (.aload_n 0, 1) := by decide +kernel
theorem dX2_lettings_1 : decode cX2_lettings 1 = .ok (.getfield 18, 3) := by decide +kernel
theorem dX2_lettings_4 : decode cX2_lettings 4 = .ok (.areturn, 1) := by decide +kernel
abbrev cX2_cancels : ByteArray := prog_12_method_17_code
def yX2_cancels : MethodName := ⟨RX2, "cancels", "(I)I"⟩
def dkwX2_cancels_1 : List UInt8 := [180, 0, 59, 4, 96, 181, 0, 59, 28, 172]
abbrev dktX2_cancels_1 : List UInt8 := dkwX2_cancels_1 ++ []
def dkwX2_cancels_0 : List UInt8 := [42, 27, 182, 0, 127, 42, 27, 182, 0, 89, 182, 0, 131, 61, 42, 27, 182, 0, 89, 182, 0, 134, 42, 89]
abbrev dktX2_cancels_0 : List UInt8 := dkwX2_cancels_0 ++ dktX2_cancels_1
theorem dksX2_cancels_0 : cX2_cancels.data.toList.drop 0 = dktX2_cancels_0 := by decide +kernel
theorem dksX2_cancels_1 : cX2_cancels.data.toList.drop 24 = dktX2_cancels_1 := dk_seg dksX2_cancels_0 24 rfl rfl
theorem dX2_cancels_0 : decode cX2_cancels 0 = .ok (.aload_n 0, 1) := dk_42 (dk_at dksX2_cancels_0 0 rfl rfl)
theorem dX2_cancels_1 : decode cX2_cancels 1 = .ok (.iload_n 1, 1) := dk_27 (dk_at dksX2_cancels_0 1 rfl rfl)
theorem dX2_cancels_2 : decode cX2_cancels 2 = .ok (.invokevirtual 127, 3) := dk_182 0 127 (dk_at dksX2_cancels_0 2 rfl rfl)
theorem dX2_cancels_5 : decode cX2_cancels 5 = .ok (.aload_n 0, 1) := dk_42 (dk_at dksX2_cancels_0 5 rfl rfl)
theorem dX2_cancels_6 : decode cX2_cancels 6 = .ok (.iload_n 1, 1) := dk_27 (dk_at dksX2_cancels_0 6 rfl rfl)
theorem dX2_cancels_7 : decode cX2_cancels 7 = .ok (.invokevirtual 89, 3) := dk_182 0 89 (dk_at dksX2_cancels_0 7 rfl rfl)
theorem dX2_cancels_10 : decode cX2_cancels 10 = .ok (.invokevirtual 131, 3) := dk_182 0 131 (dk_at dksX2_cancels_0 10 rfl rfl)
theorem dX2_cancels_13 : decode cX2_cancels 13 = .ok (.istore_n 2, 1) := dk_61 (dk_at dksX2_cancels_0 13 rfl rfl)
theorem dX2_cancels_14 : decode cX2_cancels 14 = .ok (.aload_n 0, 1) := dk_42 (dk_at dksX2_cancels_0 14 rfl rfl)
theorem dX2_cancels_15 : decode cX2_cancels 15 = .ok (.iload_n 1, 1) := dk_27 (dk_at dksX2_cancels_0 15 rfl rfl)
theorem dX2_cancels_16 : decode cX2_cancels 16 = .ok (.invokevirtual 89, 3) := dk_182 0 89 (dk_at dksX2_cancels_0 16 rfl rfl)
theorem dX2_cancels_19 : decode cX2_cancels 19 = .ok (.invokevirtual 134, 3) := dk_182 0 134 (dk_at dksX2_cancels_0 19 rfl rfl)
theorem dX2_cancels_22 : decode cX2_cancels 22 = .ok (.aload_n 0, 1) := dk_42 (dk_at dksX2_cancels_0 22 rfl rfl)
theorem dX2_cancels_23 : decode cX2_cancels 23 = .ok (.dup, 1) := dk_89 (dk_at dksX2_cancels_0 23 rfl rfl)
theorem dX2_cancels_24 : decode cX2_cancels 24 = .ok (.getfield 59, 3) := dk_180 0 59 (dk_at dksX2_cancels_1 0 rfl rfl)
theorem dX2_cancels_27 : decode cX2_cancels 27 = .ok (.iconst 1, 1) := dk_4 (dk_at dksX2_cancels_1 3 rfl rfl)
theorem dX2_cancels_28 : decode cX2_cancels 28 = .ok (.iadd, 1) := dk_96 (dk_at dksX2_cancels_1 4 rfl rfl)
theorem dX2_cancels_29 : decode cX2_cancels 29 = .ok (.putfield 59, 3) := dk_181 0 59 (dk_at dksX2_cancels_1 5 rfl rfl)
theorem dX2_cancels_32 : decode cX2_cancels 32 = .ok (.iload_n 2, 1) := dk_28 (dk_at dksX2_cancels_1 8 rfl rfl)
theorem dX2_cancels_33 : decode cX2_cancels 33 = .ok (.ireturn, 1) := dk_172 (dk_at dksX2_cancels_1 9 rfl rfl)
abbrev cX2_checkLetting : ByteArray := prog_12_method_16_code
def yX2_checkLetting : MethodName := ⟨RX2, "checkLetting", "(I)V"⟩
def dkwX2_checkLetting_0 : List UInt8 := [42, 27, 182, 0, 89, 182, 0, 124, 154, 0, 7, 4, 167, 0, 4, 3, 7, 27, 184, 0, 81, 177]
abbrev dktX2_checkLetting_0 : List UInt8 := dkwX2_checkLetting_0 ++ []
theorem dksX2_checkLetting_0 : cX2_checkLetting.data.toList.drop 0 = dktX2_checkLetting_0 := by decide +kernel
theorem dX2_checkLetting_0 : decode cX2_checkLetting 0 = .ok (.aload_n 0, 1) := dk_42 (dk_at dksX2_checkLetting_0 0 rfl rfl)
theorem dX2_checkLetting_1 : decode cX2_checkLetting 1 = .ok (.iload_n 1, 1) := dk_27 (dk_at dksX2_checkLetting_0 1 rfl rfl)
theorem dX2_checkLetting_2 : decode cX2_checkLetting 2 = .ok (.invokevirtual 89, 3) := dk_182 0 89 (dk_at dksX2_checkLetting_0 2 rfl rfl)
theorem dX2_checkLetting_5 : decode cX2_checkLetting 5 = .ok (.invokevirtual 124, 3) := dk_182 0 124 (dk_at dksX2_checkLetting_0 5 rfl rfl)
theorem dX2_checkLetting_8 : decode cX2_checkLetting 8 = .ok (.ifCond .ne 7, 3) := dk_154 0 7 (dk_at dksX2_checkLetting_0 8 rfl rfl)
theorem dX2_checkLetting_11 : decode cX2_checkLetting 11 = .ok (.iconst 1, 1) := dk_4 (dk_at dksX2_checkLetting_0 11 rfl rfl)
theorem dX2_checkLetting_12 : decode cX2_checkLetting 12 = .ok (.goto 4, 3) := dk_167 0 4 (dk_at dksX2_checkLetting_0 12 rfl rfl)
theorem dX2_checkLetting_15 : decode cX2_checkLetting 15 = .ok (.iconst 0, 1) := dk_3 (dk_at dksX2_checkLetting_0 15 rfl rfl)
theorem dX2_checkLetting_16 : decode cX2_checkLetting 16 = .ok (.iconst 4, 1) := dk_7 (dk_at dksX2_checkLetting_0 16 rfl rfl)
theorem dX2_checkLetting_17 : decode cX2_checkLetting 17 = .ok (.iload_n 1, 1) := dk_27 (dk_at dksX2_checkLetting_0 17 rfl rfl)
theorem dX2_checkLetting_18 : decode cX2_checkLetting 18 = .ok (.invokestatic 81, 3) := dk_184 0 81 (dk_at dksX2_checkLetting_0 18 rfl rfl)
theorem dX2_checkLetting_21 : decode cX2_checkLetting 21 = .ok (.return_, 1) := dk_177 (dk_at dksX2_checkLetting_0 21 rfl rfl)
abbrev cX2_moves : ByteArray := prog_12_method_18_code
def yX2_moves : MethodName := ⟨RX2, "moves", "(II)I"⟩
def dkwX2_moves_2 : List UInt8 := [182, 0, 150, 25, 4, 27, 182, 0, 113, 45, 25, 4, 182, 0, 153, 25, 4, 182, 0, 157, 172]
abbrev dktX2_moves_2 : List UInt8 := dkwX2_moves_2 ++ []
def dkwX2_moves_1 : List UInt8 := [182, 0, 147, 154, 0, 7, 4, 167, 0, 4, 3, 8, 25, 4, 182, 0, 147, 184, 0, 81, 42, 45]
abbrev dktX2_moves_1 : List UInt8 := dkwX2_moves_1 ++ dktX2_moves_2
def dkwX2_moves_0 : List UInt8 := [42, 27, 182, 0, 127, 42, 27, 182, 0, 89, 78, 45, 182, 0, 137, 28, 182, 0, 141, 58, 4, 25, 4]
abbrev dktX2_moves_0 : List UInt8 := dkwX2_moves_0 ++ dktX2_moves_1
theorem dksX2_moves_0 : cX2_moves.data.toList.drop 0 = dktX2_moves_0 := by decide +kernel
theorem dksX2_moves_1 : cX2_moves.data.toList.drop 23 = dktX2_moves_1 := dk_seg dksX2_moves_0 23 rfl rfl
theorem dksX2_moves_2 : cX2_moves.data.toList.drop 45 = dktX2_moves_2 := dk_seg dksX2_moves_1 22 rfl rfl
theorem dX2_moves_0 : decode cX2_moves 0 = .ok (.aload_n 0, 1) := dk_42 (dk_at dksX2_moves_0 0 rfl rfl)
theorem dX2_moves_1 : decode cX2_moves 1 = .ok (.iload_n 1, 1) := dk_27 (dk_at dksX2_moves_0 1 rfl rfl)
theorem dX2_moves_2 : decode cX2_moves 2 = .ok (.invokevirtual 127, 3) := dk_182 0 127 (dk_at dksX2_moves_0 2 rfl rfl)
theorem dX2_moves_5 : decode cX2_moves 5 = .ok (.aload_n 0, 1) := dk_42 (dk_at dksX2_moves_0 5 rfl rfl)
theorem dX2_moves_6 : decode cX2_moves 6 = .ok (.iload_n 1, 1) := dk_27 (dk_at dksX2_moves_0 6 rfl rfl)
theorem dX2_moves_7 : decode cX2_moves 7 = .ok (.invokevirtual 89, 3) := dk_182 0 89 (dk_at dksX2_moves_0 7 rfl rfl)
theorem dX2_moves_10 : decode cX2_moves 10 = .ok (.astore_n 3, 1) := dk_78 (dk_at dksX2_moves_0 10 rfl rfl)
theorem dX2_moves_11 : decode cX2_moves 11 = .ok (.aload_n 3, 1) := dk_45 (dk_at dksX2_moves_0 11 rfl rfl)
theorem dX2_moves_12 : decode cX2_moves 12 = .ok (.invokevirtual 137, 3) := dk_182 0 137 (dk_at dksX2_moves_0 12 rfl rfl)
theorem dX2_moves_15 : decode cX2_moves 15 = .ok (.iload_n 2, 1) := dk_28 (dk_at dksX2_moves_0 15 rfl rfl)
theorem dX2_moves_16 : decode cX2_moves 16 = .ok (.invokevirtual 141, 3) := dk_182 0 141 (dk_at dksX2_moves_0 16 rfl rfl)
theorem dX2_moves_19 : decode cX2_moves 19 = .ok (.astore 4, 2) := dk_58 4 (dk_at dksX2_moves_0 19 rfl rfl)
theorem dX2_moves_21 : decode cX2_moves 21 = .ok (.aload 4, 2) := dk_25 4 (dk_at dksX2_moves_0 21 rfl rfl)
theorem dX2_moves_23 : decode cX2_moves 23 = .ok (.invokevirtual 147, 3) := dk_182 0 147 (dk_at dksX2_moves_1 0 rfl rfl)
theorem dX2_moves_26 : decode cX2_moves 26 = .ok (.ifCond .ne 7, 3) := dk_154 0 7 (dk_at dksX2_moves_1 3 rfl rfl)
theorem dX2_moves_29 : decode cX2_moves 29 = .ok (.iconst 1, 1) := dk_4 (dk_at dksX2_moves_1 6 rfl rfl)
theorem dX2_moves_30 : decode cX2_moves 30 = .ok (.goto 4, 3) := dk_167 0 4 (dk_at dksX2_moves_1 7 rfl rfl)
theorem dX2_moves_33 : decode cX2_moves 33 = .ok (.iconst 0, 1) := dk_3 (dk_at dksX2_moves_1 10 rfl rfl)
theorem dX2_moves_34 : decode cX2_moves 34 = .ok (.iconst 5, 1) := dk_8 (dk_at dksX2_moves_1 11 rfl rfl)
theorem dX2_moves_35 : decode cX2_moves 35 = .ok (.aload 4, 2) := dk_25 4 (dk_at dksX2_moves_1 12 rfl rfl)
theorem dX2_moves_37 : decode cX2_moves 37 = .ok (.invokevirtual 147, 3) := dk_182 0 147 (dk_at dksX2_moves_1 14 rfl rfl)
theorem dX2_moves_40 : decode cX2_moves 40 = .ok (.invokestatic 81, 3) := dk_184 0 81 (dk_at dksX2_moves_1 17 rfl rfl)
theorem dX2_moves_43 : decode cX2_moves 43 = .ok (.aload_n 0, 1) := dk_42 (dk_at dksX2_moves_1 20 rfl rfl)
theorem dX2_moves_44 : decode cX2_moves 44 = .ok (.aload_n 3, 1) := dk_45 (dk_at dksX2_moves_1 21 rfl rfl)
theorem dX2_moves_45 : decode cX2_moves 45 = .ok (.invokevirtual 150, 3) := dk_182 0 150 (dk_at dksX2_moves_2 0 rfl rfl)
theorem dX2_moves_48 : decode cX2_moves 48 = .ok (.aload 4, 2) := dk_25 4 (dk_at dksX2_moves_2 3 rfl rfl)
theorem dX2_moves_50 : decode cX2_moves 50 = .ok (.iload_n 1, 1) := dk_27 (dk_at dksX2_moves_2 5 rfl rfl)
theorem dX2_moves_51 : decode cX2_moves 51 = .ok (.invokevirtual 113, 3) := dk_182 0 113 (dk_at dksX2_moves_2 6 rfl rfl)
theorem dX2_moves_54 : decode cX2_moves 54 = .ok (.aload_n 3, 1) := dk_45 (dk_at dksX2_moves_2 9 rfl rfl)
theorem dX2_moves_55 : decode cX2_moves 55 = .ok (.aload 4, 2) := dk_25 4 (dk_at dksX2_moves_2 10 rfl rfl)
theorem dX2_moves_57 : decode cX2_moves 57 = .ok (.invokevirtual 153, 3) := dk_182 0 153 (dk_at dksX2_moves_2 12 rfl rfl)
theorem dX2_moves_60 : decode cX2_moves 60 = .ok (.aload 4, 2) := dk_25 4 (dk_at dksX2_moves_2 15 rfl rfl)
theorem dX2_moves_62 : decode cX2_moves 62 = .ok (.invokevirtual 157, 3) := dk_182 0 157 (dk_at dksX2_moves_2 17 rfl rfl)
theorem dX2_moves_65 : decode cX2_moves 65 = .ok (.ireturn, 1) := dk_172 (dk_at dksX2_moves_2 20 rfl rfl)
abbrev cX2_splits : ByteArray := prog_12_method_19_code
def yX2_splits : MethodName := ⟨RX2, "splits", "(II)I"⟩
def dkwX2_splits_3 : List UInt8 := [182, 0, 120, 54, 4, 45, 187, 0, 142, 89, 45, 182, 0, 103, 28, 183, 0, 170, 182, 0, 153, 21, 4, 172]
abbrev dktX2_splits_3 : List UInt8 := dkwX2_splits_3 ++ []
def dkwX2_splits_2 : List UInt8 := [182, 0, 150, 45, 182, 0, 164, 187, 0, 142, 89, 28, 45, 182, 0, 167, 183, 0, 170, 183, 0, 117]
abbrev dktX2_splits_2 : List UInt8 := dkwX2_splits_2 ++ dktX2_splits_3
def dkwX2_splits_1 : List UInt8 := [153, 0, 7, 4, 167, 0, 4, 3, 16, 6, 45, 182, 0, 161, 184, 0, 81, 42, 187, 0, 45, 89, 45]
abbrev dktX2_splits_1 : List UInt8 := dkwX2_splits_1 ++ dktX2_splits_2
def dkwX2_splits_0 : List UInt8 := [42, 27, 182, 0, 127, 42, 27, 182, 0, 89, 78, 28, 45, 182, 0, 103, 164, 0, 15, 45, 28, 182, 0, 158]
abbrev dktX2_splits_0 : List UInt8 := dkwX2_splits_0 ++ dktX2_splits_1
theorem dksX2_splits_0 : cX2_splits.data.toList.drop 0 = dktX2_splits_0 := by decide +kernel
theorem dksX2_splits_1 : cX2_splits.data.toList.drop 24 = dktX2_splits_1 := dk_seg dksX2_splits_0 24 rfl rfl
theorem dksX2_splits_2 : cX2_splits.data.toList.drop 47 = dktX2_splits_2 := dk_seg dksX2_splits_1 23 rfl rfl
theorem dksX2_splits_3 : cX2_splits.data.toList.drop 69 = dktX2_splits_3 := dk_seg dksX2_splits_2 22 rfl rfl
theorem dX2_splits_0 : decode cX2_splits 0 = .ok (.aload_n 0, 1) := dk_42 (dk_at dksX2_splits_0 0 rfl rfl)
theorem dX2_splits_1 : decode cX2_splits 1 = .ok (.iload_n 1, 1) := dk_27 (dk_at dksX2_splits_0 1 rfl rfl)
theorem dX2_splits_2 : decode cX2_splits 2 = .ok (.invokevirtual 127, 3) := dk_182 0 127 (dk_at dksX2_splits_0 2 rfl rfl)
theorem dX2_splits_5 : decode cX2_splits 5 = .ok (.aload_n 0, 1) := dk_42 (dk_at dksX2_splits_0 5 rfl rfl)
theorem dX2_splits_6 : decode cX2_splits 6 = .ok (.iload_n 1, 1) := dk_27 (dk_at dksX2_splits_0 6 rfl rfl)
theorem dX2_splits_7 : decode cX2_splits 7 = .ok (.invokevirtual 89, 3) := dk_182 0 89 (dk_at dksX2_splits_0 7 rfl rfl)
theorem dX2_splits_10 : decode cX2_splits 10 = .ok (.astore_n 3, 1) := dk_78 (dk_at dksX2_splits_0 10 rfl rfl)
theorem dX2_splits_11 : decode cX2_splits 11 = .ok (.iload_n 2, 1) := dk_28 (dk_at dksX2_splits_0 11 rfl rfl)
theorem dX2_splits_12 : decode cX2_splits 12 = .ok (.aload_n 3, 1) := dk_45 (dk_at dksX2_splits_0 12 rfl rfl)
theorem dX2_splits_13 : decode cX2_splits 13 = .ok (.invokevirtual 103, 3) := dk_182 0 103 (dk_at dksX2_splits_0 13 rfl rfl)
theorem dX2_splits_16 : decode cX2_splits 16 = .ok (.if_icmp .le 15, 3) := dk_164 0 15 (dk_at dksX2_splits_0 16 rfl rfl)
theorem dX2_splits_19 : decode cX2_splits 19 = .ok (.aload_n 3, 1) := dk_45 (dk_at dksX2_splits_0 19 rfl rfl)
theorem dX2_splits_20 : decode cX2_splits 20 = .ok (.iload_n 2, 1) := dk_28 (dk_at dksX2_splits_0 20 rfl rfl)
theorem dX2_splits_21 : decode cX2_splits 21 = .ok (.invokevirtual 158, 3) := dk_182 0 158 (dk_at dksX2_splits_0 21 rfl rfl)
theorem dX2_splits_24 : decode cX2_splits 24 = .ok (.ifCond .eq 7, 3) := dk_153 0 7 (dk_at dksX2_splits_1 0 rfl rfl)
theorem dX2_splits_27 : decode cX2_splits 27 = .ok (.iconst 1, 1) := dk_4 (dk_at dksX2_splits_1 3 rfl rfl)
theorem dX2_splits_28 : decode cX2_splits 28 = .ok (.goto 4, 3) := dk_167 0 4 (dk_at dksX2_splits_1 4 rfl rfl)
theorem dX2_splits_31 : decode cX2_splits 31 = .ok (.iconst 0, 1) := dk_3 (dk_at dksX2_splits_1 7 rfl rfl)
theorem dX2_splits_32 : decode cX2_splits 32 = .ok (.bipush 6, 2) := dk_16 6 (dk_at dksX2_splits_1 8 rfl rfl)
theorem dX2_splits_34 : decode cX2_splits 34 = .ok (.aload_n 3, 1) := dk_45 (dk_at dksX2_splits_1 10 rfl rfl)
theorem dX2_splits_35 : decode cX2_splits 35 = .ok (.invokevirtual 161, 3) := dk_182 0 161 (dk_at dksX2_splits_1 11 rfl rfl)
theorem dX2_splits_38 : decode cX2_splits 38 = .ok (.invokestatic 81, 3) := dk_184 0 81 (dk_at dksX2_splits_1 14 rfl rfl)
theorem dX2_splits_41 : decode cX2_splits 41 = .ok (.aload_n 0, 1) := dk_42 (dk_at dksX2_splits_1 17 rfl rfl)
theorem dX2_splits_42 : decode cX2_splits 42 = .ok (.new 45, 3) := dk_187 0 45 (dk_at dksX2_splits_1 18 rfl rfl)
theorem dX2_splits_45 : decode cX2_splits 45 = .ok (.dup, 1) := dk_89 (dk_at dksX2_splits_1 21 rfl rfl)
theorem dX2_splits_46 : decode cX2_splits 46 = .ok (.aload_n 3, 1) := dk_45 (dk_at dksX2_splits_1 22 rfl rfl)
theorem dX2_splits_47 : decode cX2_splits 47 = .ok (.invokevirtual 150, 3) := dk_182 0 150 (dk_at dksX2_splits_2 0 rfl rfl)
theorem dX2_splits_50 : decode cX2_splits 50 = .ok (.aload_n 3, 1) := dk_45 (dk_at dksX2_splits_2 3 rfl rfl)
theorem dX2_splits_51 : decode cX2_splits 51 = .ok (.invokevirtual 164, 3) := dk_182 0 164 (dk_at dksX2_splits_2 4 rfl rfl)
theorem dX2_splits_54 : decode cX2_splits 54 = .ok (.new 142, 3) := dk_187 0 142 (dk_at dksX2_splits_2 7 rfl rfl)
theorem dX2_splits_57 : decode cX2_splits 57 = .ok (.dup, 1) := dk_89 (dk_at dksX2_splits_2 10 rfl rfl)
theorem dX2_splits_58 : decode cX2_splits 58 = .ok (.iload_n 2, 1) := dk_28 (dk_at dksX2_splits_2 11 rfl rfl)
theorem dX2_splits_59 : decode cX2_splits 59 = .ok (.aload_n 3, 1) := dk_45 (dk_at dksX2_splits_2 12 rfl rfl)
theorem dX2_splits_60 : decode cX2_splits 60 = .ok (.invokevirtual 167, 3) := dk_182 0 167 (dk_at dksX2_splits_2 13 rfl rfl)
theorem dX2_splits_63 : decode cX2_splits 63 = .ok (.invokespecial 170, 3) := dk_183 0 170 (dk_at dksX2_splits_2 16 rfl rfl)
theorem dX2_splits_66 : decode cX2_splits 66 = .ok (.invokespecial 117, 3) := dk_183 0 117 (dk_at dksX2_splits_2 19 rfl rfl)
theorem dX2_splits_69 : decode cX2_splits 69 = .ok (.invokevirtual 120, 3) := dk_182 0 120 (dk_at dksX2_splits_3 0 rfl rfl)
theorem dX2_splits_72 : decode cX2_splits 72 = .ok (.istore 4, 2) := dk_54 4 (dk_at dksX2_splits_3 3 rfl rfl)
theorem dX2_splits_74 : decode cX2_splits 74 = .ok (.aload_n 3, 1) := dk_45 (dk_at dksX2_splits_3 5 rfl rfl)
theorem dX2_splits_75 : decode cX2_splits 75 = .ok (.new 142, 3) := dk_187 0 142 (dk_at dksX2_splits_3 6 rfl rfl)
theorem dX2_splits_78 : decode cX2_splits 78 = .ok (.dup, 1) := dk_89 (dk_at dksX2_splits_3 9 rfl rfl)
theorem dX2_splits_79 : decode cX2_splits 79 = .ok (.aload_n 3, 1) := dk_45 (dk_at dksX2_splits_3 10 rfl rfl)
theorem dX2_splits_80 : decode cX2_splits 80 = .ok (.invokevirtual 103, 3) := dk_182 0 103 (dk_at dksX2_splits_3 11 rfl rfl)
theorem dX2_splits_83 : decode cX2_splits 83 = .ok (.iload_n 2, 1) := dk_28 (dk_at dksX2_splits_3 14 rfl rfl)
theorem dX2_splits_84 : decode cX2_splits 84 = .ok (.invokespecial 170, 3) := dk_183 0 170 (dk_at dksX2_splits_3 15 rfl rfl)
theorem dX2_splits_87 : decode cX2_splits 87 = .ok (.invokevirtual 153, 3) := dk_182 0 153 (dk_at dksX2_splits_3 18 rfl rfl)
theorem dX2_splits_90 : decode cX2_splits 90 = .ok (.iload 4, 2) := dk_21 4 (dk_at dksX2_splits_3 21 rfl rfl)
theorem dX2_splits_92 : decode cX2_splits 92 = .ok (.ireturn, 1) := dk_172 (dk_at dksX2_splits_3 23 rfl rfl)
abbrev cX2_joins : ByteArray := prog_12_method_20_code
def yX2_joins : MethodName := ⟨RX2, "joins", "(II)I"⟩
def dkwX2_joins_5 : List UInt8 := [182, 0, 161, 172]
abbrev dktX2_joins_5 : List UInt8 := dkwX2_joins_5 ++ []
def dkwX2_joins_4 : List UInt8 := [182, 0, 137, 25, 4, 182, 0, 177, 182, 0, 153, 42, 89, 180, 0, 62, 4, 96, 181, 0, 62, 45]
abbrev dktX2_joins_4 : List UInt8 := dkwX2_joins_4 ++ dktX2_joins_5
def dkwX2_joins_3 : List UInt8 := [167, 0, 4, 3, 16, 8, 45, 25, 4, 184, 0, 173, 184, 0, 81, 25, 4, 182, 0, 134, 45, 45]
abbrev dktX2_joins_3 : List UInt8 := dkwX2_joins_3 ++ dktX2_joins_4
def dkwX2_joins_2 : List UInt8 := [167, 0, 4, 3, 16, 7, 25, 4, 182, 0, 150, 184, 0, 81, 45, 25, 4, 184, 0, 173, 154, 0, 7, 4]
abbrev dktX2_joins_2 : List UInt8 := dkwX2_joins_2 ++ dktX2_joins_3
def dkwX2_joins_1 : List UInt8 := [182, 0, 150, 25, 4, 182, 0, 150, 160, 0, 19, 45, 182, 0, 164, 25, 4, 182, 0, 164, 160, 0, 7, 4]
abbrev dktX2_joins_1 : List UInt8 := dkwX2_joins_1 ++ dktX2_joins_2
def dkwX2_joins_0 : List UInt8 := [42, 27, 182, 0, 127, 42, 28, 182, 0, 127, 42, 27, 182, 0, 89, 78, 42, 28, 182, 0, 89, 58, 4, 45]
abbrev dktX2_joins_0 : List UInt8 := dkwX2_joins_0 ++ dktX2_joins_1
theorem dksX2_joins_0 : cX2_joins.data.toList.drop 0 = dktX2_joins_0 := by decide +kernel
theorem dksX2_joins_1 : cX2_joins.data.toList.drop 24 = dktX2_joins_1 := dk_seg dksX2_joins_0 24 rfl rfl
theorem dksX2_joins_2 : cX2_joins.data.toList.drop 48 = dktX2_joins_2 := dk_seg dksX2_joins_1 24 rfl rfl
theorem dksX2_joins_3 : cX2_joins.data.toList.drop 72 = dktX2_joins_3 := dk_seg dksX2_joins_2 24 rfl rfl
theorem dksX2_joins_4 : cX2_joins.data.toList.drop 94 = dktX2_joins_4 := dk_seg dksX2_joins_3 22 rfl rfl
theorem dksX2_joins_5 : cX2_joins.data.toList.drop 116 = dktX2_joins_5 := dk_seg dksX2_joins_4 22 rfl rfl
theorem dX2_joins_0 : decode cX2_joins 0 = .ok (.aload_n 0, 1) := dk_42 (dk_at dksX2_joins_0 0 rfl rfl)
theorem dX2_joins_1 : decode cX2_joins 1 = .ok (.iload_n 1, 1) := dk_27 (dk_at dksX2_joins_0 1 rfl rfl)
theorem dX2_joins_2 : decode cX2_joins 2 = .ok (.invokevirtual 127, 3) := dk_182 0 127 (dk_at dksX2_joins_0 2 rfl rfl)
theorem dX2_joins_5 : decode cX2_joins 5 = .ok (.aload_n 0, 1) := dk_42 (dk_at dksX2_joins_0 5 rfl rfl)
theorem dX2_joins_6 : decode cX2_joins 6 = .ok (.iload_n 2, 1) := dk_28 (dk_at dksX2_joins_0 6 rfl rfl)
theorem dX2_joins_7 : decode cX2_joins 7 = .ok (.invokevirtual 127, 3) := dk_182 0 127 (dk_at dksX2_joins_0 7 rfl rfl)
theorem dX2_joins_10 : decode cX2_joins 10 = .ok (.aload_n 0, 1) := dk_42 (dk_at dksX2_joins_0 10 rfl rfl)
theorem dX2_joins_11 : decode cX2_joins 11 = .ok (.iload_n 1, 1) := dk_27 (dk_at dksX2_joins_0 11 rfl rfl)
theorem dX2_joins_12 : decode cX2_joins 12 = .ok (.invokevirtual 89, 3) := dk_182 0 89 (dk_at dksX2_joins_0 12 rfl rfl)
theorem dX2_joins_15 : decode cX2_joins 15 = .ok (.astore_n 3, 1) := dk_78 (dk_at dksX2_joins_0 15 rfl rfl)
theorem dX2_joins_16 : decode cX2_joins 16 = .ok (.aload_n 0, 1) := dk_42 (dk_at dksX2_joins_0 16 rfl rfl)
theorem dX2_joins_17 : decode cX2_joins 17 = .ok (.iload_n 2, 1) := dk_28 (dk_at dksX2_joins_0 17 rfl rfl)
theorem dX2_joins_18 : decode cX2_joins 18 = .ok (.invokevirtual 89, 3) := dk_182 0 89 (dk_at dksX2_joins_0 18 rfl rfl)
theorem dX2_joins_21 : decode cX2_joins 21 = .ok (.astore 4, 2) := dk_58 4 (dk_at dksX2_joins_0 21 rfl rfl)
theorem dX2_joins_23 : decode cX2_joins 23 = .ok (.aload_n 3, 1) := dk_45 (dk_at dksX2_joins_0 23 rfl rfl)
theorem dX2_joins_24 : decode cX2_joins 24 = .ok (.invokevirtual 150, 3) := dk_182 0 150 (dk_at dksX2_joins_1 0 rfl rfl)
theorem dX2_joins_27 : decode cX2_joins 27 = .ok (.aload 4, 2) := dk_25 4 (dk_at dksX2_joins_1 3 rfl rfl)
theorem dX2_joins_29 : decode cX2_joins 29 = .ok (.invokevirtual 150, 3) := dk_182 0 150 (dk_at dksX2_joins_1 5 rfl rfl)
theorem dX2_joins_32 : decode cX2_joins 32 = .ok (.if_icmp .ne 19, 3) := dk_160 0 19 (dk_at dksX2_joins_1 8 rfl rfl)
theorem dX2_joins_35 : decode cX2_joins 35 = .ok (.aload_n 3, 1) := dk_45 (dk_at dksX2_joins_1 11 rfl rfl)
theorem dX2_joins_36 : decode cX2_joins 36 = .ok (.invokevirtual 164, 3) := dk_182 0 164 (dk_at dksX2_joins_1 12 rfl rfl)
theorem dX2_joins_39 : decode cX2_joins 39 = .ok (.aload 4, 2) := dk_25 4 (dk_at dksX2_joins_1 15 rfl rfl)
theorem dX2_joins_41 : decode cX2_joins 41 = .ok (.invokevirtual 164, 3) := dk_182 0 164 (dk_at dksX2_joins_1 17 rfl rfl)
theorem dX2_joins_44 : decode cX2_joins 44 = .ok (.if_icmp .ne 7, 3) := dk_160 0 7 (dk_at dksX2_joins_1 20 rfl rfl)
theorem dX2_joins_47 : decode cX2_joins 47 = .ok (.iconst 1, 1) := dk_4 (dk_at dksX2_joins_1 23 rfl rfl)
theorem dX2_joins_48 : decode cX2_joins 48 = .ok (.goto 4, 3) := dk_167 0 4 (dk_at dksX2_joins_2 0 rfl rfl)
theorem dX2_joins_51 : decode cX2_joins 51 = .ok (.iconst 0, 1) := dk_3 (dk_at dksX2_joins_2 3 rfl rfl)
theorem dX2_joins_52 : decode cX2_joins 52 = .ok (.bipush 7, 2) := dk_16 7 (dk_at dksX2_joins_2 4 rfl rfl)
theorem dX2_joins_54 : decode cX2_joins 54 = .ok (.aload 4, 2) := dk_25 4 (dk_at dksX2_joins_2 6 rfl rfl)
theorem dX2_joins_56 : decode cX2_joins 56 = .ok (.invokevirtual 150, 3) := dk_182 0 150 (dk_at dksX2_joins_2 8 rfl rfl)
theorem dX2_joins_59 : decode cX2_joins 59 = .ok (.invokestatic 81, 3) := dk_184 0 81 (dk_at dksX2_joins_2 11 rfl rfl)
theorem dX2_joins_62 : decode cX2_joins 62 = .ok (.aload_n 3, 1) := dk_45 (dk_at dksX2_joins_2 14 rfl rfl)
theorem dX2_joins_63 : decode cX2_joins 63 = .ok (.aload 4, 2) := dk_25 4 (dk_at dksX2_joins_2 15 rfl rfl)
theorem dX2_joins_65 : decode cX2_joins 65 = .ok (.invokestatic 173, 3) := dk_184 0 173 (dk_at dksX2_joins_2 17 rfl rfl)
theorem dX2_joins_68 : decode cX2_joins 68 = .ok (.ifCond .ne 7, 3) := dk_154 0 7 (dk_at dksX2_joins_2 20 rfl rfl)
theorem dX2_joins_71 : decode cX2_joins 71 = .ok (.iconst 1, 1) := dk_4 (dk_at dksX2_joins_2 23 rfl rfl)
theorem dX2_joins_72 : decode cX2_joins 72 = .ok (.goto 4, 3) := dk_167 0 4 (dk_at dksX2_joins_3 0 rfl rfl)
theorem dX2_joins_75 : decode cX2_joins 75 = .ok (.iconst 0, 1) := dk_3 (dk_at dksX2_joins_3 3 rfl rfl)
theorem dX2_joins_76 : decode cX2_joins 76 = .ok (.bipush 8, 2) := dk_16 8 (dk_at dksX2_joins_3 4 rfl rfl)
theorem dX2_joins_78 : decode cX2_joins 78 = .ok (.aload_n 3, 1) := dk_45 (dk_at dksX2_joins_3 6 rfl rfl)
theorem dX2_joins_79 : decode cX2_joins 79 = .ok (.aload 4, 2) := dk_25 4 (dk_at dksX2_joins_3 7 rfl rfl)
theorem dX2_joins_81 : decode cX2_joins 81 = .ok (.invokestatic 173, 3) := dk_184 0 173 (dk_at dksX2_joins_3 9 rfl rfl)
theorem dX2_joins_84 : decode cX2_joins 84 = .ok (.invokestatic 81, 3) := dk_184 0 81 (dk_at dksX2_joins_3 12 rfl rfl)
theorem dX2_joins_87 : decode cX2_joins 87 = .ok (.aload 4, 2) := dk_25 4 (dk_at dksX2_joins_3 15 rfl rfl)
theorem dX2_joins_89 : decode cX2_joins 89 = .ok (.invokevirtual 134, 3) := dk_182 0 134 (dk_at dksX2_joins_3 17 rfl rfl)
theorem dX2_joins_92 : decode cX2_joins 92 = .ok (.aload_n 3, 1) := dk_45 (dk_at dksX2_joins_3 20 rfl rfl)
theorem dX2_joins_93 : decode cX2_joins 93 = .ok (.aload_n 3, 1) := dk_45 (dk_at dksX2_joins_3 21 rfl rfl)
theorem dX2_joins_94 : decode cX2_joins 94 = .ok (.invokevirtual 137, 3) := dk_182 0 137 (dk_at dksX2_joins_4 0 rfl rfl)
theorem dX2_joins_97 : decode cX2_joins 97 = .ok (.aload 4, 2) := dk_25 4 (dk_at dksX2_joins_4 3 rfl rfl)
theorem dX2_joins_99 : decode cX2_joins 99 = .ok (.invokevirtual 177, 3) := dk_182 0 177 (dk_at dksX2_joins_4 5 rfl rfl)
theorem dX2_joins_102 : decode cX2_joins 102 = .ok (.invokevirtual 153, 3) := dk_182 0 153 (dk_at dksX2_joins_4 8 rfl rfl)
theorem dX2_joins_105 : decode cX2_joins 105 = .ok (.aload_n 0, 1) := dk_42 (dk_at dksX2_joins_4 11 rfl rfl)
theorem dX2_joins_106 : decode cX2_joins 106 = .ok (.dup, 1) := dk_89 (dk_at dksX2_joins_4 12 rfl rfl)
theorem dX2_joins_107 : decode cX2_joins 107 = .ok (.getfield 62, 3) := dk_180 0 62 (dk_at dksX2_joins_4 13 rfl rfl)
theorem dX2_joins_110 : decode cX2_joins 110 = .ok (.iconst 1, 1) := dk_4 (dk_at dksX2_joins_4 16 rfl rfl)
theorem dX2_joins_111 : decode cX2_joins 111 = .ok (.iadd, 1) := dk_96 (dk_at dksX2_joins_4 17 rfl rfl)
theorem dX2_joins_112 : decode cX2_joins 112 = .ok (.putfield 62, 3) := dk_181 0 62 (dk_at dksX2_joins_4 18 rfl rfl)
theorem dX2_joins_115 : decode cX2_joins 115 = .ok (.aload_n 3, 1) := dk_45 (dk_at dksX2_joins_4 21 rfl rfl)
theorem dX2_joins_116 : decode cX2_joins 116 = .ok (.invokevirtual 161, 3) := dk_182 0 161 (dk_at dksX2_joins_5 0 rfl rfl)
theorem dX2_joins_119 : decode cX2_joins 119 = .ok (.ireturn, 1) := dk_172 (dk_at dksX2_joins_5 3 rfl rfl)
abbrev cX2_at : ByteArray := prog_12_method_31_code
def yX2_at : MethodName := ⟨RX2, "at", "(II)I"⟩
def dkwX2_at_2 : List UInt8 := [172]
abbrev dktX2_at_2 : List UInt8 := dkwX2_at_2 ++ []
def dkwX2_at_1 : List UInt8 := [153, 0, 17, 42, 29, 182, 0, 89, 28, 182, 0, 158, 153, 0, 5, 29, 172, 132, 3, 1, 167, 255, 214, 2]
abbrev dktX2_at_1 : List UInt8 := dkwX2_at_1 ++ dktX2_at_2
def dkwX2_at_0 : List UInt8 := [3, 62, 29, 42, 180, 0, 18, 185, 0, 65, 1, 0, 162, 0, 35, 42, 29, 182, 0, 89, 27, 182, 0, 93]
abbrev dktX2_at_0 : List UInt8 := dkwX2_at_0 ++ dktX2_at_1
theorem dksX2_at_0 : cX2_at.data.toList.drop 0 = dktX2_at_0 := by decide +kernel
theorem dksX2_at_1 : cX2_at.data.toList.drop 24 = dktX2_at_1 := dk_seg dksX2_at_0 24 rfl rfl
theorem dksX2_at_2 : cX2_at.data.toList.drop 48 = dktX2_at_2 := dk_seg dksX2_at_1 24 rfl rfl
theorem dX2_at_0 : decode cX2_at 0 = .ok (.iconst 0, 1) := dk_3 (dk_at dksX2_at_0 0 rfl rfl)
theorem dX2_at_1 : decode cX2_at 1 = .ok (.istore_n 3, 1) := dk_62 (dk_at dksX2_at_0 1 rfl rfl)
theorem dX2_at_2 : decode cX2_at 2 = .ok (.iload_n 3, 1) := dk_29 (dk_at dksX2_at_0 2 rfl rfl)
theorem dX2_at_3 : decode cX2_at 3 = .ok (.aload_n 0, 1) := dk_42 (dk_at dksX2_at_0 3 rfl rfl)
theorem dX2_at_4 : decode cX2_at 4 = .ok (.getfield 18, 3) := dk_180 0 18 (dk_at dksX2_at_0 4 rfl rfl)
theorem dX2_at_7 : decode cX2_at 7 = .ok (.invokeinterface 65 1, 5) := by decide +kernel
theorem dX2_at_12 : decode cX2_at 12 = .ok (.if_icmp .ge 35, 3) := dk_162 0 35 (dk_at dksX2_at_0 12 rfl rfl)
theorem dX2_at_15 : decode cX2_at 15 = .ok (.aload_n 0, 1) := dk_42 (dk_at dksX2_at_0 15 rfl rfl)
theorem dX2_at_16 : decode cX2_at 16 = .ok (.iload_n 3, 1) := dk_29 (dk_at dksX2_at_0 16 rfl rfl)
theorem dX2_at_17 : decode cX2_at 17 = .ok (.invokevirtual 89, 3) := dk_182 0 89 (dk_at dksX2_at_0 17 rfl rfl)
theorem dX2_at_20 : decode cX2_at 20 = .ok (.iload_n 1, 1) := dk_27 (dk_at dksX2_at_0 20 rfl rfl)
theorem dX2_at_21 : decode cX2_at 21 = .ok (.invokevirtual 93, 3) := dk_182 0 93 (dk_at dksX2_at_0 21 rfl rfl)
theorem dX2_at_24 : decode cX2_at 24 = .ok (.ifCond .eq 17, 3) := dk_153 0 17 (dk_at dksX2_at_1 0 rfl rfl)
theorem dX2_at_27 : decode cX2_at 27 = .ok (.aload_n 0, 1) := dk_42 (dk_at dksX2_at_1 3 rfl rfl)
theorem dX2_at_28 : decode cX2_at 28 = .ok (.iload_n 3, 1) := dk_29 (dk_at dksX2_at_1 4 rfl rfl)
theorem dX2_at_29 : decode cX2_at 29 = .ok (.invokevirtual 89, 3) := dk_182 0 89 (dk_at dksX2_at_1 5 rfl rfl)
theorem dX2_at_32 : decode cX2_at 32 = .ok (.iload_n 2, 1) := dk_28 (dk_at dksX2_at_1 8 rfl rfl)
theorem dX2_at_33 : decode cX2_at 33 = .ok (.invokevirtual 158, 3) := dk_182 0 158 (dk_at dksX2_at_1 9 rfl rfl)
theorem dX2_at_36 : decode cX2_at 36 = .ok (.ifCond .eq 5, 3) := dk_153 0 5 (dk_at dksX2_at_1 12 rfl rfl)
theorem dX2_at_39 : decode cX2_at 39 = .ok (.iload_n 3, 1) := dk_29 (dk_at dksX2_at_1 15 rfl rfl)
theorem dX2_at_40 : decode cX2_at 40 = .ok (.ireturn, 1) := dk_172 (dk_at dksX2_at_1 16 rfl rfl)
theorem dX2_at_41 : decode cX2_at 41 = .ok (.iinc 3 1, 3) := dk_132 3 1 (dk_at dksX2_at_1 17 rfl rfl)
theorem dX2_at_44 : decode cX2_at 44 = .ok (.goto (-42), 3) := dk_167 255 214 (dk_at dksX2_at_1 20 rfl rfl)
theorem dX2_at_47 : decode cX2_at 47 = .ok (.iconst (-1), 1) := dk_2 (dk_at dksX2_at_1 23 rfl rfl)
theorem dX2_at_48 : decode cX2_at 48 = .ok (.ireturn, 1) := dk_172 (dk_at dksX2_at_2 0 rfl rfl)
abbrev cX2_wishes : ByteArray := prog_12_method_21_code
def yX2_wishes : MethodName := ⟨RX2, "wishes", "(ILBoxSpans$Span;)I"⟩
def dkwX2_wishes_2 : List UInt8 := [180, 0, 21, 185, 0, 65, 1, 0, 4, 100, 172]
abbrev dktX2_wishes_2 : List UInt8 := dkwX2_wishes_2 ++ []
def dkwX2_wishes_1 : List UInt8 := [184, 0, 81, 42, 180, 0, 21, 187, 0, 181, 89, 27, 44, 183, 0, 183, 185, 0, 51, 2, 0, 87, 42]
abbrev dktX2_wishes_1 : List UInt8 := dkwX2_wishes_1 ++ dktX2_wishes_2
def dkwX2_wishes_0 : List UInt8 := [42, 180, 0, 21, 185, 0, 65, 1, 0, 16, 12, 162, 0, 7, 4, 167, 0, 4, 3, 4, 16, 12]
abbrev dktX2_wishes_0 : List UInt8 := dkwX2_wishes_0 ++ dktX2_wishes_1
theorem dksX2_wishes_0 : cX2_wishes.data.toList.drop 0 = dktX2_wishes_0 := by decide +kernel
theorem dksX2_wishes_1 : cX2_wishes.data.toList.drop 22 = dktX2_wishes_1 := dk_seg dksX2_wishes_0 22 rfl rfl
theorem dksX2_wishes_2 : cX2_wishes.data.toList.drop 45 = dktX2_wishes_2 := dk_seg dksX2_wishes_1 23 rfl rfl
theorem dX2_wishes_0 : decode cX2_wishes 0 = .ok (.aload_n 0, 1) := dk_42 (dk_at dksX2_wishes_0 0 rfl rfl)
theorem dX2_wishes_1 : decode cX2_wishes 1 = .ok (.getfield 21, 3) := dk_180 0 21 (dk_at dksX2_wishes_0 1 rfl rfl)
theorem dX2_wishes_4 : decode cX2_wishes 4 = .ok (.invokeinterface 65 1, 5) := by decide +kernel
theorem dX2_wishes_9 : decode cX2_wishes 9 = .ok (.bipush 12, 2) := dk_16 12 (dk_at dksX2_wishes_0 9 rfl rfl)
theorem dX2_wishes_11 : decode cX2_wishes 11 = .ok (.if_icmp .ge 7, 3) := dk_162 0 7 (dk_at dksX2_wishes_0 11 rfl rfl)
theorem dX2_wishes_14 : decode cX2_wishes 14 = .ok (.iconst 1, 1) := dk_4 (dk_at dksX2_wishes_0 14 rfl rfl)
theorem dX2_wishes_15 : decode cX2_wishes 15 = .ok (.goto 4, 3) := dk_167 0 4 (dk_at dksX2_wishes_0 15 rfl rfl)
theorem dX2_wishes_18 : decode cX2_wishes 18 = .ok (.iconst 0, 1) := dk_3 (dk_at dksX2_wishes_0 18 rfl rfl)
theorem dX2_wishes_19 : decode cX2_wishes 19 = .ok (.iconst 1, 1) := dk_4 (dk_at dksX2_wishes_0 19 rfl rfl)
theorem dX2_wishes_20 : decode cX2_wishes 20 = .ok (.bipush 12, 2) := dk_16 12 (dk_at dksX2_wishes_0 20 rfl rfl)
theorem dX2_wishes_22 : decode cX2_wishes 22 = .ok (.invokestatic 81, 3) := dk_184 0 81 (dk_at dksX2_wishes_1 0 rfl rfl)
theorem dX2_wishes_25 : decode cX2_wishes 25 = .ok (.aload_n 0, 1) := dk_42 (dk_at dksX2_wishes_1 3 rfl rfl)
theorem dX2_wishes_26 : decode cX2_wishes 26 = .ok (.getfield 21, 3) := dk_180 0 21 (dk_at dksX2_wishes_1 4 rfl rfl)
theorem dX2_wishes_29 : decode cX2_wishes 29 = .ok (.new 181, 3) := dk_187 0 181 (dk_at dksX2_wishes_1 7 rfl rfl)
theorem dX2_wishes_32 : decode cX2_wishes 32 = .ok (.dup, 1) := dk_89 (dk_at dksX2_wishes_1 10 rfl rfl)
theorem dX2_wishes_33 : decode cX2_wishes 33 = .ok (.iload_n 1, 1) := dk_27 (dk_at dksX2_wishes_1 11 rfl rfl)
theorem dX2_wishes_34 : decode cX2_wishes 34 = .ok (.aload_n 2, 1) := dk_44 (dk_at dksX2_wishes_1 12 rfl rfl)
theorem dX2_wishes_35 : decode cX2_wishes 35 = .ok (.invokespecial 183, 3) := dk_183 0 183 (dk_at dksX2_wishes_1 13 rfl rfl)
theorem dX2_wishes_38 : decode cX2_wishes 38 = .ok (.invokeinterface 51 2, 5) := by decide +kernel
theorem dX2_wishes_43 : decode cX2_wishes 43 = .ok (.pop, 1) := dk_87 (dk_at dksX2_wishes_1 21 rfl rfl)
theorem dX2_wishes_44 : decode cX2_wishes 44 = .ok (.aload_n 0, 1) := dk_42 (dk_at dksX2_wishes_1 22 rfl rfl)
theorem dX2_wishes_45 : decode cX2_wishes 45 = .ok (.getfield 21, 3) := dk_180 0 21 (dk_at dksX2_wishes_2 0 rfl rfl)
theorem dX2_wishes_48 : decode cX2_wishes 48 = .ok (.invokeinterface 65 1, 5) := by decide +kernel
theorem dX2_wishes_53 : decode cX2_wishes 53 = .ok (.iconst 1, 1) := dk_4 (dk_at dksX2_wishes_2 8 rfl rfl)
theorem dX2_wishes_54 : decode cX2_wishes 54 = .ok (.isub, 1) := dk_100 (dk_at dksX2_wishes_2 9 rfl rfl)
theorem dX2_wishes_55 : decode cX2_wishes 55 = .ok (.ireturn, 1) := dk_172 (dk_at dksX2_wishes_2 10 rfl rfl)
abbrev cX2_wishes_2 : ByteArray := prog_12_method_7_code
def yX2_wishes_2 : MethodName := ⟨RX2, "wishes", "()Ljava/util/List;"⟩
theorem dX2_wishes_2_0 : decode cX2_wishes_2 0 = .ok (.aload_n 0, 1) := by decide +kernel
theorem dX2_wishes_2_1 : decode cX2_wishes_2 1 = .ok (.getfield 21, 3) := by decide +kernel
theorem dX2_wishes_2_4 : decode cX2_wishes_2 4 = .ok (.areturn, 1) := by decide +kernel
abbrev cX2_drops : ByteArray := prog_12_method_22_code
def yX2_drops : MethodName := ⟨RX2, "drops", "(I)I"⟩
def dkwX2_drops_0 : List UInt8 := [42, 180, 0, 21, 27, 185, 0, 186, 2, 0, 87, 42, 180, 0, 21, 185, 0, 65, 1, 0, 172]
abbrev dktX2_drops_0 : List UInt8 := dkwX2_drops_0 ++ []
theorem dksX2_drops_0 : cX2_drops.data.toList.drop 0 = dktX2_drops_0 := by decide +kernel
theorem dX2_drops_0 : decode cX2_drops 0 = .ok (.aload_n 0, 1) := dk_42 (dk_at dksX2_drops_0 0 rfl rfl)
theorem dX2_drops_1 : decode cX2_drops 1 = .ok (.getfield 21, 3) := dk_180 0 21 (dk_at dksX2_drops_0 1 rfl rfl)
theorem dX2_drops_4 : decode cX2_drops 4 = .ok (.iload_n 1, 1) := dk_27 (dk_at dksX2_drops_0 4 rfl rfl)
theorem dX2_drops_5 : decode cX2_drops 5 = .ok (.invokeinterface 186 2, 5) := by decide +kernel
theorem dX2_drops_10 : decode cX2_drops 10 = .ok (.pop, 1) := dk_87 (dk_at dksX2_drops_0 10 rfl rfl)
theorem dX2_drops_11 : decode cX2_drops 11 = .ok (.aload_n 0, 1) := dk_42 (dk_at dksX2_drops_0 11 rfl rfl)
theorem dX2_drops_12 : decode cX2_drops 12 = .ok (.getfield 21, 3) := dk_180 0 21 (dk_at dksX2_drops_0 12 rfl rfl)
theorem dX2_drops_15 : decode cX2_drops 15 = .ok (.invokeinterface 65 1, 5) := by decide +kernel
theorem dX2_drops_20 : decode cX2_drops 20 = .ok (.ireturn, 1) := dk_172 (dk_at dksX2_drops_0 20 rfl rfl)
abbrev cX2_overAgain : ByteArray := prog_12_method_28_code
def yX2_overAgain : MethodName := ⟨RX2, "overAgain", "(I)I"⟩
def dkwX2_overAgain_3 : List UInt8 := [3, 96, 62, 167, 255, 200, 28, 29, 100, 172]
abbrev dktX2_overAgain_3 : List UInt8 := dkwX2_overAgain_3 ++ []
def dkwX2_overAgain_2 : List UInt8 := [163, 0, 7, 4, 167, 0, 4, 3, 96, 61, 29, 25, 5, 182, 0, 222, 27, 163, 0, 7, 4, 167, 0, 4]
abbrev dktX2_overAgain_2 : List UInt8 := dkwX2_overAgain_2 ++ dktX2_overAgain_3
def dkwX2_overAgain_1 : List UInt8 := [153, 0, 52, 25, 4, 185, 0, 41, 1, 0, 192, 0, 181, 58, 5, 28, 25, 5, 182, 0, 221, 27]
abbrev dktX2_overAgain_1 : List UInt8 := dkwX2_overAgain_1 ++ dktX2_overAgain_2
def dkwX2_overAgain_0 : List UInt8 := [3, 61, 3, 62, 42, 180, 0, 21, 185, 0, 31, 1, 0, 58, 4, 25, 4, 185, 0, 35, 1, 0]
abbrev dktX2_overAgain_0 : List UInt8 := dkwX2_overAgain_0 ++ dktX2_overAgain_1
theorem dksX2_overAgain_0 : cX2_overAgain.data.toList.drop 0 = dktX2_overAgain_0 := by decide +kernel
theorem dksX2_overAgain_1 : cX2_overAgain.data.toList.drop 22 = dktX2_overAgain_1 := dk_seg dksX2_overAgain_0 22 rfl rfl
theorem dksX2_overAgain_2 : cX2_overAgain.data.toList.drop 44 = dktX2_overAgain_2 := dk_seg dksX2_overAgain_1 22 rfl rfl
theorem dksX2_overAgain_3 : cX2_overAgain.data.toList.drop 68 = dktX2_overAgain_3 := dk_seg dksX2_overAgain_2 24 rfl rfl
theorem dX2_overAgain_0 : decode cX2_overAgain 0 = .ok (.iconst 0, 1) := dk_3 (dk_at dksX2_overAgain_0 0 rfl rfl)
theorem dX2_overAgain_1 : decode cX2_overAgain 1 = .ok (.istore_n 2, 1) := dk_61 (dk_at dksX2_overAgain_0 1 rfl rfl)
theorem dX2_overAgain_2 : decode cX2_overAgain 2 = .ok (.iconst 0, 1) := dk_3 (dk_at dksX2_overAgain_0 2 rfl rfl)
theorem dX2_overAgain_3 : decode cX2_overAgain 3 = .ok (.istore_n 3, 1) := dk_62 (dk_at dksX2_overAgain_0 3 rfl rfl)
theorem dX2_overAgain_4 : decode cX2_overAgain 4 = .ok (.aload_n 0, 1) := dk_42 (dk_at dksX2_overAgain_0 4 rfl rfl)
theorem dX2_overAgain_5 : decode cX2_overAgain 5 = .ok (.getfield 21, 3) := dk_180 0 21 (dk_at dksX2_overAgain_0 5 rfl rfl)
theorem dX2_overAgain_8 : decode cX2_overAgain 8 = .ok (.invokeinterface 31 1, 5) := by decide +kernel
theorem dX2_overAgain_13 : decode cX2_overAgain 13 = .ok (.astore 4, 2) := dk_58 4 (dk_at dksX2_overAgain_0 13 rfl rfl)
theorem dX2_overAgain_15 : decode cX2_overAgain 15 = .ok (.aload 4, 2) := dk_25 4 (dk_at dksX2_overAgain_0 15 rfl rfl)
theorem dX2_overAgain_17 : decode cX2_overAgain 17 = .ok (.invokeinterface 35 1, 5) := by decide +kernel
theorem dX2_overAgain_22 : decode cX2_overAgain 22 = .ok (.ifCond .eq 52, 3) := dk_153 0 52 (dk_at dksX2_overAgain_1 0 rfl rfl)
theorem dX2_overAgain_25 : decode cX2_overAgain 25 = .ok (.aload 4, 2) := dk_25 4 (dk_at dksX2_overAgain_1 3 rfl rfl)
theorem dX2_overAgain_27 : decode cX2_overAgain 27 = .ok (.invokeinterface 41 1, 5) := by decide +kernel
theorem dX2_overAgain_32 : decode cX2_overAgain 32 = .ok (.checkcast 181, 3) := dk_192 0 181 (dk_at dksX2_overAgain_1 10 rfl rfl)
theorem dX2_overAgain_35 : decode cX2_overAgain 35 = .ok (.astore 5, 2) := dk_58 5 (dk_at dksX2_overAgain_1 13 rfl rfl)
theorem dX2_overAgain_37 : decode cX2_overAgain 37 = .ok (.iload_n 2, 1) := dk_28 (dk_at dksX2_overAgain_1 15 rfl rfl)
theorem dX2_overAgain_38 : decode cX2_overAgain 38 = .ok (.aload 5, 2) := dk_25 5 (dk_at dksX2_overAgain_1 16 rfl rfl)
theorem dX2_overAgain_40 : decode cX2_overAgain 40 = .ok (.invokevirtual 221, 3) := dk_182 0 221 (dk_at dksX2_overAgain_1 18 rfl rfl)
theorem dX2_overAgain_43 : decode cX2_overAgain 43 = .ok (.iload_n 1, 1) := dk_27 (dk_at dksX2_overAgain_1 21 rfl rfl)
theorem dX2_overAgain_44 : decode cX2_overAgain 44 = .ok (.if_icmp .gt 7, 3) := dk_163 0 7 (dk_at dksX2_overAgain_2 0 rfl rfl)
theorem dX2_overAgain_47 : decode cX2_overAgain 47 = .ok (.iconst 1, 1) := dk_4 (dk_at dksX2_overAgain_2 3 rfl rfl)
theorem dX2_overAgain_48 : decode cX2_overAgain 48 = .ok (.goto 4, 3) := dk_167 0 4 (dk_at dksX2_overAgain_2 4 rfl rfl)
theorem dX2_overAgain_51 : decode cX2_overAgain 51 = .ok (.iconst 0, 1) := dk_3 (dk_at dksX2_overAgain_2 7 rfl rfl)
theorem dX2_overAgain_52 : decode cX2_overAgain 52 = .ok (.iadd, 1) := dk_96 (dk_at dksX2_overAgain_2 8 rfl rfl)
theorem dX2_overAgain_53 : decode cX2_overAgain 53 = .ok (.istore_n 2, 1) := dk_61 (dk_at dksX2_overAgain_2 9 rfl rfl)
theorem dX2_overAgain_54 : decode cX2_overAgain 54 = .ok (.iload_n 3, 1) := dk_29 (dk_at dksX2_overAgain_2 10 rfl rfl)
theorem dX2_overAgain_55 : decode cX2_overAgain 55 = .ok (.aload 5, 2) := dk_25 5 (dk_at dksX2_overAgain_2 11 rfl rfl)
theorem dX2_overAgain_57 : decode cX2_overAgain 57 = .ok (.invokevirtual 222, 3) := dk_182 0 222 (dk_at dksX2_overAgain_2 13 rfl rfl)
theorem dX2_overAgain_60 : decode cX2_overAgain 60 = .ok (.iload_n 1, 1) := dk_27 (dk_at dksX2_overAgain_2 16 rfl rfl)
theorem dX2_overAgain_61 : decode cX2_overAgain 61 = .ok (.if_icmp .gt 7, 3) := dk_163 0 7 (dk_at dksX2_overAgain_2 17 rfl rfl)
theorem dX2_overAgain_64 : decode cX2_overAgain 64 = .ok (.iconst 1, 1) := dk_4 (dk_at dksX2_overAgain_2 20 rfl rfl)
theorem dX2_overAgain_65 : decode cX2_overAgain 65 = .ok (.goto 4, 3) := dk_167 0 4 (dk_at dksX2_overAgain_2 21 rfl rfl)
theorem dX2_overAgain_68 : decode cX2_overAgain 68 = .ok (.iconst 0, 1) := dk_3 (dk_at dksX2_overAgain_3 0 rfl rfl)
theorem dX2_overAgain_69 : decode cX2_overAgain 69 = .ok (.iadd, 1) := dk_96 (dk_at dksX2_overAgain_3 1 rfl rfl)
theorem dX2_overAgain_70 : decode cX2_overAgain 70 = .ok (.istore_n 3, 1) := dk_62 (dk_at dksX2_overAgain_3 2 rfl rfl)
theorem dX2_overAgain_71 : decode cX2_overAgain 71 = .ok (.goto (-56), 3) := dk_167 255 200 (dk_at dksX2_overAgain_3 3 rfl rfl)
theorem dX2_overAgain_74 : decode cX2_overAgain 74 = .ok (.iload_n 2, 1) := dk_28 (dk_at dksX2_overAgain_3 6 rfl rfl)
theorem dX2_overAgain_75 : decode cX2_overAgain 75 = .ok (.iload_n 3, 1) := dk_29 (dk_at dksX2_overAgain_3 7 rfl rfl)
theorem dX2_overAgain_76 : decode cX2_overAgain 76 = .ok (.isub, 1) := dk_100 (dk_at dksX2_overAgain_3 8 rfl rfl)
theorem dX2_overAgain_77 : decode cX2_overAgain 77 = .ok (.ireturn, 1) := dk_172 (dk_at dksX2_overAgain_3 9 rfl rfl)
abbrev cX2_allots : ByteArray := prog_12_method_25_code
def yX2_allots : MethodName := ⟨RX2, "allots", "()I"⟩
def dkwX2_allots_6 : List UInt8 := [172]
abbrev dktX2_allots_6 : List UInt8 := dkwX2_allots_6 ++ []
def dkwX2_allots_5 : List UInt8 := [182, 0, 213, 182, 0, 217, 87, 132, 1, 1, 167, 255, 166, 42, 89, 180, 0, 55, 27, 96, 181, 0, 55, 27]
abbrev dktX2_allots_5 : List UInt8 := dkwX2_allots_5 ++ dktX2_allots_6
def dkwX2_allots_4 : List UInt8 := [89, 21, 4, 45, 182, 0, 207, 45, 182, 0, 212, 183, 0, 117, 185, 0, 51, 2, 0, 87, 42, 42, 45]
abbrev dktX2_allots_4 : List UInt8 := dkwX2_allots_4 ++ dktX2_allots_5
def dkwX2_allots_3 : List UInt8 := [159, 0, 57, 42, 180, 0, 18, 185, 0, 65, 1, 0, 16, 30, 162, 0, 43, 42, 180, 0, 18, 187, 0, 45]
abbrev dktX2_allots_3 : List UInt8 := dkwX2_allots_3 ++ dktX2_allots_4
def dkwX2_allots_2 : List UInt8 := [185, 0, 41, 1, 0, 192, 0, 181, 78, 42, 45, 182, 0, 207, 45, 182, 0, 208, 54, 4, 21, 4, 2]
abbrev dktX2_allots_2 : List UInt8 := dkwX2_allots_2 ++ dktX2_allots_3
def dkwX2_allots_1 : List UInt8 := [60, 42, 182, 0, 203, 185, 0, 31, 1, 0, 77, 44, 185, 0, 35, 1, 0, 153, 0, 87, 44]
abbrev dktX2_allots_1 : List UInt8 := dkwX2_allots_1 ++ dktX2_allots_2
def dkwX2_allots_0 : List UInt8 := [42, 180, 0, 21, 185, 0, 200, 1, 0, 154, 0, 7, 4, 167, 0, 4, 3, 16, 9, 3, 184, 0, 81, 3]
abbrev dktX2_allots_0 : List UInt8 := dkwX2_allots_0 ++ dktX2_allots_1
theorem dksX2_allots_0 : cX2_allots.data.toList.drop 0 = dktX2_allots_0 := by decide +kernel
theorem dksX2_allots_1 : cX2_allots.data.toList.drop 24 = dktX2_allots_1 := dk_seg dksX2_allots_0 24 rfl rfl
theorem dksX2_allots_2 : cX2_allots.data.toList.drop 45 = dktX2_allots_2 := dk_seg dksX2_allots_1 21 rfl rfl
theorem dksX2_allots_3 : cX2_allots.data.toList.drop 68 = dktX2_allots_3 := dk_seg dksX2_allots_2 23 rfl rfl
theorem dksX2_allots_4 : cX2_allots.data.toList.drop 92 = dktX2_allots_4 := dk_seg dksX2_allots_3 24 rfl rfl
theorem dksX2_allots_5 : cX2_allots.data.toList.drop 115 = dktX2_allots_5 := dk_seg dksX2_allots_4 23 rfl rfl
theorem dksX2_allots_6 : cX2_allots.data.toList.drop 139 = dktX2_allots_6 := dk_seg dksX2_allots_5 24 rfl rfl
theorem dX2_allots_0 : decode cX2_allots 0 = .ok (.aload_n 0, 1) := dk_42 (dk_at dksX2_allots_0 0 rfl rfl)
theorem dX2_allots_1 : decode cX2_allots 1 = .ok (.getfield 21, 3) := dk_180 0 21 (dk_at dksX2_allots_0 1 rfl rfl)
theorem dX2_allots_4 : decode cX2_allots 4 = .ok (.invokeinterface 200 1, 5) := by decide +kernel
theorem dX2_allots_9 : decode cX2_allots 9 = .ok (.ifCond .ne 7, 3) := dk_154 0 7 (dk_at dksX2_allots_0 9 rfl rfl)
theorem dX2_allots_12 : decode cX2_allots 12 = .ok (.iconst 1, 1) := dk_4 (dk_at dksX2_allots_0 12 rfl rfl)
theorem dX2_allots_13 : decode cX2_allots 13 = .ok (.goto 4, 3) := dk_167 0 4 (dk_at dksX2_allots_0 13 rfl rfl)
theorem dX2_allots_16 : decode cX2_allots 16 = .ok (.iconst 0, 1) := dk_3 (dk_at dksX2_allots_0 16 rfl rfl)
theorem dX2_allots_17 : decode cX2_allots 17 = .ok (.bipush 9, 2) := dk_16 9 (dk_at dksX2_allots_0 17 rfl rfl)
theorem dX2_allots_19 : decode cX2_allots 19 = .ok (.iconst 0, 1) := dk_3 (dk_at dksX2_allots_0 19 rfl rfl)
theorem dX2_allots_20 : decode cX2_allots 20 = .ok (.invokestatic 81, 3) := dk_184 0 81 (dk_at dksX2_allots_0 20 rfl rfl)
theorem dX2_allots_23 : decode cX2_allots 23 = .ok (.iconst 0, 1) := dk_3 (dk_at dksX2_allots_0 23 rfl rfl)
theorem dX2_allots_24 : decode cX2_allots 24 = .ok (.istore_n 1, 1) := dk_60 (dk_at dksX2_allots_1 0 rfl rfl)
theorem dX2_allots_25 : decode cX2_allots 25 = .ok (.aload_n 0, 1) := dk_42 (dk_at dksX2_allots_1 1 rfl rfl)
theorem dX2_allots_26 : decode cX2_allots 26 = .ok (.invokevirtual 203, 3) := dk_182 0 203 (dk_at dksX2_allots_1 2 rfl rfl)
theorem dX2_allots_29 : decode cX2_allots 29 = .ok (.invokeinterface 31 1, 5) := by decide +kernel
theorem dX2_allots_34 : decode cX2_allots 34 = .ok (.astore_n 2, 1) := dk_77 (dk_at dksX2_allots_1 10 rfl rfl)
theorem dX2_allots_35 : decode cX2_allots 35 = .ok (.aload_n 2, 1) := dk_44 (dk_at dksX2_allots_1 11 rfl rfl)
theorem dX2_allots_36 : decode cX2_allots 36 = .ok (.invokeinterface 35 1, 5) := by decide +kernel
theorem dX2_allots_41 : decode cX2_allots 41 = .ok (.ifCond .eq 87, 3) := dk_153 0 87 (dk_at dksX2_allots_1 17 rfl rfl)
theorem dX2_allots_44 : decode cX2_allots 44 = .ok (.aload_n 2, 1) := dk_44 (dk_at dksX2_allots_1 20 rfl rfl)
theorem dX2_allots_45 : decode cX2_allots 45 = .ok (.invokeinterface 41 1, 5) := by decide +kernel
theorem dX2_allots_50 : decode cX2_allots 50 = .ok (.checkcast 181, 3) := dk_192 0 181 (dk_at dksX2_allots_2 5 rfl rfl)
theorem dX2_allots_53 : decode cX2_allots 53 = .ok (.astore_n 3, 1) := dk_78 (dk_at dksX2_allots_2 8 rfl rfl)
theorem dX2_allots_54 : decode cX2_allots 54 = .ok (.aload_n 0, 1) := dk_42 (dk_at dksX2_allots_2 9 rfl rfl)
theorem dX2_allots_55 : decode cX2_allots 55 = .ok (.aload_n 3, 1) := dk_45 (dk_at dksX2_allots_2 10 rfl rfl)
theorem dX2_allots_56 : decode cX2_allots 56 = .ok (.invokevirtual 207, 3) := dk_182 0 207 (dk_at dksX2_allots_2 11 rfl rfl)
theorem dX2_allots_59 : decode cX2_allots 59 = .ok (.aload_n 3, 1) := dk_45 (dk_at dksX2_allots_2 14 rfl rfl)
theorem dX2_allots_60 : decode cX2_allots 60 = .ok (.invokevirtual 208, 3) := dk_182 0 208 (dk_at dksX2_allots_2 15 rfl rfl)
theorem dX2_allots_63 : decode cX2_allots 63 = .ok (.istore 4, 2) := dk_54 4 (dk_at dksX2_allots_2 18 rfl rfl)
theorem dX2_allots_65 : decode cX2_allots 65 = .ok (.iload 4, 2) := dk_21 4 (dk_at dksX2_allots_2 20 rfl rfl)
theorem dX2_allots_67 : decode cX2_allots 67 = .ok (.iconst (-1), 1) := dk_2 (dk_at dksX2_allots_2 22 rfl rfl)
theorem dX2_allots_68 : decode cX2_allots 68 = .ok (.if_icmp .eq 57, 3) := dk_159 0 57 (dk_at dksX2_allots_3 0 rfl rfl)
theorem dX2_allots_71 : decode cX2_allots 71 = .ok (.aload_n 0, 1) := dk_42 (dk_at dksX2_allots_3 3 rfl rfl)
theorem dX2_allots_72 : decode cX2_allots 72 = .ok (.getfield 18, 3) := dk_180 0 18 (dk_at dksX2_allots_3 4 rfl rfl)
theorem dX2_allots_75 : decode cX2_allots 75 = .ok (.invokeinterface 65 1, 5) := by decide +kernel
theorem dX2_allots_80 : decode cX2_allots 80 = .ok (.bipush 30, 2) := dk_16 30 (dk_at dksX2_allots_3 12 rfl rfl)
theorem dX2_allots_82 : decode cX2_allots 82 = .ok (.if_icmp .ge 43, 3) := dk_162 0 43 (dk_at dksX2_allots_3 14 rfl rfl)
theorem dX2_allots_85 : decode cX2_allots 85 = .ok (.aload_n 0, 1) := dk_42 (dk_at dksX2_allots_3 17 rfl rfl)
theorem dX2_allots_86 : decode cX2_allots 86 = .ok (.getfield 18, 3) := dk_180 0 18 (dk_at dksX2_allots_3 18 rfl rfl)
theorem dX2_allots_89 : decode cX2_allots 89 = .ok (.new 45, 3) := dk_187 0 45 (dk_at dksX2_allots_3 21 rfl rfl)
theorem dX2_allots_92 : decode cX2_allots 92 = .ok (.dup, 1) := dk_89 (dk_at dksX2_allots_4 0 rfl rfl)
theorem dX2_allots_93 : decode cX2_allots 93 = .ok (.iload 4, 2) := dk_21 4 (dk_at dksX2_allots_4 1 rfl rfl)
theorem dX2_allots_95 : decode cX2_allots 95 = .ok (.aload_n 3, 1) := dk_45 (dk_at dksX2_allots_4 3 rfl rfl)
theorem dX2_allots_96 : decode cX2_allots 96 = .ok (.invokevirtual 207, 3) := dk_182 0 207 (dk_at dksX2_allots_4 4 rfl rfl)
theorem dX2_allots_99 : decode cX2_allots 99 = .ok (.aload_n 3, 1) := dk_45 (dk_at dksX2_allots_4 7 rfl rfl)
theorem dX2_allots_100 : decode cX2_allots 100 = .ok (.invokevirtual 212, 3) := dk_182 0 212 (dk_at dksX2_allots_4 8 rfl rfl)
theorem dX2_allots_103 : decode cX2_allots 103 = .ok (.invokespecial 117, 3) := dk_183 0 117 (dk_at dksX2_allots_4 11 rfl rfl)
theorem dX2_allots_106 : decode cX2_allots 106 = .ok (.invokeinterface 51 2, 5) := by decide +kernel
theorem dX2_allots_111 : decode cX2_allots 111 = .ok (.pop, 1) := dk_87 (dk_at dksX2_allots_4 19 rfl rfl)
theorem dX2_allots_112 : decode cX2_allots 112 = .ok (.aload_n 0, 1) := dk_42 (dk_at dksX2_allots_4 20 rfl rfl)
theorem dX2_allots_113 : decode cX2_allots 113 = .ok (.aload_n 0, 1) := dk_42 (dk_at dksX2_allots_4 21 rfl rfl)
theorem dX2_allots_114 : decode cX2_allots 114 = .ok (.aload_n 3, 1) := dk_45 (dk_at dksX2_allots_4 22 rfl rfl)
theorem dX2_allots_115 : decode cX2_allots 115 = .ok (.invokevirtual 213, 3) := dk_182 0 213 (dk_at dksX2_allots_5 0 rfl rfl)
theorem dX2_allots_118 : decode cX2_allots 118 = .ok (.invokevirtual 217, 3) := dk_182 0 217 (dk_at dksX2_allots_5 3 rfl rfl)
theorem dX2_allots_121 : decode cX2_allots 121 = .ok (.pop, 1) := dk_87 (dk_at dksX2_allots_5 6 rfl rfl)
theorem dX2_allots_122 : decode cX2_allots 122 = .ok (.iinc 1 1, 3) := dk_132 1 1 (dk_at dksX2_allots_5 7 rfl rfl)
theorem dX2_allots_125 : decode cX2_allots 125 = .ok (.goto (-90), 3) := dk_167 255 166 (dk_at dksX2_allots_5 10 rfl rfl)
theorem dX2_allots_128 : decode cX2_allots 128 = .ok (.aload_n 0, 1) := dk_42 (dk_at dksX2_allots_5 13 rfl rfl)
theorem dX2_allots_129 : decode cX2_allots 129 = .ok (.dup, 1) := dk_89 (dk_at dksX2_allots_5 14 rfl rfl)
theorem dX2_allots_130 : decode cX2_allots 130 = .ok (.getfield 55, 3) := dk_180 0 55 (dk_at dksX2_allots_5 15 rfl rfl)
theorem dX2_allots_133 : decode cX2_allots 133 = .ok (.iload_n 1, 1) := dk_27 (dk_at dksX2_allots_5 18 rfl rfl)
theorem dX2_allots_134 : decode cX2_allots 134 = .ok (.iadd, 1) := dk_96 (dk_at dksX2_allots_5 19 rfl rfl)
theorem dX2_allots_135 : decode cX2_allots 135 = .ok (.putfield 55, 3) := dk_181 0 55 (dk_at dksX2_allots_5 20 rfl rfl)
theorem dX2_allots_138 : decode cX2_allots 138 = .ok (.iload_n 1, 1) := dk_27 (dk_at dksX2_allots_5 23 rfl rfl)
theorem dX2_allots_139 : decode cX2_allots 139 = .ok (.ireturn, 1) := dk_172 (dk_at dksX2_allots_6 0 rfl rfl)
abbrev cX2_byEnds : ByteArray := prog_12_method_24_code
def yX2_byEnds : MethodName := ⟨RX2, "byEnds", "()Ljava/util/List;"⟩
def dkwX2_byEnds_4 : List UInt8 := [182, 0, 197, 167, 255, 177, 43, 176]
abbrev dktX2_byEnds_4 : List UInt8 := dkwX2_byEnds_4 ++ []
def dkwX2_byEnds_3 : List UInt8 := [45, 182, 0, 193, 153, 0, 7, 4, 167, 0, 4, 3, 96, 54, 4, 167, 255, 215, 43, 21, 4, 45]
abbrev dktX2_byEnds_3 : List UInt8 := dkwX2_byEnds_3 ++ dktX2_byEnds_4
def dkwX2_byEnds_2 : List UInt8 := [185, 0, 35, 1, 0, 153, 0, 37, 25, 5, 185, 0, 41, 1, 0, 192, 0, 181, 58, 6, 21, 4, 25, 6]
abbrev dktX2_byEnds_2 : List UInt8 := dkwX2_byEnds_2 ++ dktX2_byEnds_3
def dkwX2_byEnds_1 : List UInt8 := [153, 0, 76, 44, 185, 0, 41, 1, 0, 192, 0, 181, 78, 3, 54, 4, 43, 182, 0, 192, 58, 5, 25, 5]
abbrev dktX2_byEnds_1 : List UInt8 := dkwX2_byEnds_1 ++ dktX2_byEnds_2
def dkwX2_byEnds_0 : List UInt8 := [187, 0, 189, 89, 183, 0, 191, 76, 42, 180, 0, 21, 185, 0, 31, 1, 0, 77, 44, 185, 0, 35, 1, 0]
abbrev dktX2_byEnds_0 : List UInt8 := dkwX2_byEnds_0 ++ dktX2_byEnds_1
theorem dksX2_byEnds_0 : cX2_byEnds.data.toList.drop 0 = dktX2_byEnds_0 := by decide +kernel
theorem dksX2_byEnds_1 : cX2_byEnds.data.toList.drop 24 = dktX2_byEnds_1 := dk_seg dksX2_byEnds_0 24 rfl rfl
theorem dksX2_byEnds_2 : cX2_byEnds.data.toList.drop 48 = dktX2_byEnds_2 := dk_seg dksX2_byEnds_1 24 rfl rfl
theorem dksX2_byEnds_3 : cX2_byEnds.data.toList.drop 72 = dktX2_byEnds_3 := dk_seg dksX2_byEnds_2 24 rfl rfl
theorem dksX2_byEnds_4 : cX2_byEnds.data.toList.drop 94 = dktX2_byEnds_4 := dk_seg dksX2_byEnds_3 22 rfl rfl
theorem dX2_byEnds_0 : decode cX2_byEnds 0 = .ok (.new 189, 3) := dk_187 0 189 (dk_at dksX2_byEnds_0 0 rfl rfl)
theorem dX2_byEnds_3 : decode cX2_byEnds 3 = .ok (.dup, 1) := dk_89 (dk_at dksX2_byEnds_0 3 rfl rfl)
theorem dX2_byEnds_4 : decode cX2_byEnds 4 = .ok (.invokespecial 191, 3) := dk_183 0 191 (dk_at dksX2_byEnds_0 4 rfl rfl)
theorem dX2_byEnds_7 : decode cX2_byEnds 7 = .ok (.astore_n 1, 1) := dk_76 (dk_at dksX2_byEnds_0 7 rfl rfl)
theorem dX2_byEnds_8 : decode cX2_byEnds 8 = .ok (.aload_n 0, 1) := dk_42 (dk_at dksX2_byEnds_0 8 rfl rfl)
theorem dX2_byEnds_9 : decode cX2_byEnds 9 = .ok (.getfield 21, 3) := dk_180 0 21 (dk_at dksX2_byEnds_0 9 rfl rfl)
theorem dX2_byEnds_12 : decode cX2_byEnds 12 = .ok (.invokeinterface 31 1, 5) := by decide +kernel
theorem dX2_byEnds_17 : decode cX2_byEnds 17 = .ok (.astore_n 2, 1) := dk_77 (dk_at dksX2_byEnds_0 17 rfl rfl)
theorem dX2_byEnds_18 : decode cX2_byEnds 18 = .ok (.aload_n 2, 1) := dk_44 (dk_at dksX2_byEnds_0 18 rfl rfl)
theorem dX2_byEnds_19 : decode cX2_byEnds 19 = .ok (.invokeinterface 35 1, 5) := by decide +kernel
theorem dX2_byEnds_24 : decode cX2_byEnds 24 = .ok (.ifCond .eq 76, 3) := dk_153 0 76 (dk_at dksX2_byEnds_1 0 rfl rfl)
theorem dX2_byEnds_27 : decode cX2_byEnds 27 = .ok (.aload_n 2, 1) := dk_44 (dk_at dksX2_byEnds_1 3 rfl rfl)
theorem dX2_byEnds_28 : decode cX2_byEnds 28 = .ok (.invokeinterface 41 1, 5) := by decide +kernel
theorem dX2_byEnds_33 : decode cX2_byEnds 33 = .ok (.checkcast 181, 3) := dk_192 0 181 (dk_at dksX2_byEnds_1 9 rfl rfl)
theorem dX2_byEnds_36 : decode cX2_byEnds 36 = .ok (.astore_n 3, 1) := dk_78 (dk_at dksX2_byEnds_1 12 rfl rfl)
theorem dX2_byEnds_37 : decode cX2_byEnds 37 = .ok (.iconst 0, 1) := dk_3 (dk_at dksX2_byEnds_1 13 rfl rfl)
theorem dX2_byEnds_38 : decode cX2_byEnds 38 = .ok (.istore 4, 2) := dk_54 4 (dk_at dksX2_byEnds_1 14 rfl rfl)
theorem dX2_byEnds_40 : decode cX2_byEnds 40 = .ok (.aload_n 1, 1) := dk_43 (dk_at dksX2_byEnds_1 16 rfl rfl)
theorem dX2_byEnds_41 : decode cX2_byEnds 41 = .ok (.invokevirtual 192, 3) := dk_182 0 192 (dk_at dksX2_byEnds_1 17 rfl rfl)
theorem dX2_byEnds_44 : decode cX2_byEnds 44 = .ok (.astore 5, 2) := dk_58 5 (dk_at dksX2_byEnds_1 20 rfl rfl)
theorem dX2_byEnds_46 : decode cX2_byEnds 46 = .ok (.aload 5, 2) := dk_25 5 (dk_at dksX2_byEnds_1 22 rfl rfl)
theorem dX2_byEnds_48 : decode cX2_byEnds 48 = .ok (.invokeinterface 35 1, 5) := by decide +kernel
theorem dX2_byEnds_53 : decode cX2_byEnds 53 = .ok (.ifCond .eq 37, 3) := dk_153 0 37 (dk_at dksX2_byEnds_2 5 rfl rfl)
theorem dX2_byEnds_56 : decode cX2_byEnds 56 = .ok (.aload 5, 2) := dk_25 5 (dk_at dksX2_byEnds_2 8 rfl rfl)
theorem dX2_byEnds_58 : decode cX2_byEnds 58 = .ok (.invokeinterface 41 1, 5) := by decide +kernel
theorem dX2_byEnds_63 : decode cX2_byEnds 63 = .ok (.checkcast 181, 3) := dk_192 0 181 (dk_at dksX2_byEnds_2 15 rfl rfl)
theorem dX2_byEnds_66 : decode cX2_byEnds 66 = .ok (.astore 6, 2) := dk_58 6 (dk_at dksX2_byEnds_2 18 rfl rfl)
theorem dX2_byEnds_68 : decode cX2_byEnds 68 = .ok (.iload 4, 2) := dk_21 4 (dk_at dksX2_byEnds_2 20 rfl rfl)
theorem dX2_byEnds_70 : decode cX2_byEnds 70 = .ok (.aload 6, 2) := dk_25 6 (dk_at dksX2_byEnds_2 22 rfl rfl)
theorem dX2_byEnds_72 : decode cX2_byEnds 72 = .ok (.aload_n 3, 1) := dk_45 (dk_at dksX2_byEnds_3 0 rfl rfl)
theorem dX2_byEnds_73 : decode cX2_byEnds 73 = .ok (.invokevirtual 193, 3) := dk_182 0 193 (dk_at dksX2_byEnds_3 1 rfl rfl)
theorem dX2_byEnds_76 : decode cX2_byEnds 76 = .ok (.ifCond .eq 7, 3) := dk_153 0 7 (dk_at dksX2_byEnds_3 4 rfl rfl)
theorem dX2_byEnds_79 : decode cX2_byEnds 79 = .ok (.iconst 1, 1) := dk_4 (dk_at dksX2_byEnds_3 7 rfl rfl)
theorem dX2_byEnds_80 : decode cX2_byEnds 80 = .ok (.goto 4, 3) := dk_167 0 4 (dk_at dksX2_byEnds_3 8 rfl rfl)
theorem dX2_byEnds_83 : decode cX2_byEnds 83 = .ok (.iconst 0, 1) := dk_3 (dk_at dksX2_byEnds_3 11 rfl rfl)
theorem dX2_byEnds_84 : decode cX2_byEnds 84 = .ok (.iadd, 1) := dk_96 (dk_at dksX2_byEnds_3 12 rfl rfl)
theorem dX2_byEnds_85 : decode cX2_byEnds 85 = .ok (.istore 4, 2) := dk_54 4 (dk_at dksX2_byEnds_3 13 rfl rfl)
theorem dX2_byEnds_87 : decode cX2_byEnds 87 = .ok (.goto (-41), 3) := dk_167 255 215 (dk_at dksX2_byEnds_3 15 rfl rfl)
theorem dX2_byEnds_90 : decode cX2_byEnds 90 = .ok (.aload_n 1, 1) := dk_43 (dk_at dksX2_byEnds_3 18 rfl rfl)
theorem dX2_byEnds_91 : decode cX2_byEnds 91 = .ok (.iload 4, 2) := dk_21 4 (dk_at dksX2_byEnds_3 19 rfl rfl)
theorem dX2_byEnds_93 : decode cX2_byEnds 93 = .ok (.aload_n 3, 1) := dk_45 (dk_at dksX2_byEnds_3 21 rfl rfl)
theorem dX2_byEnds_94 : decode cX2_byEnds 94 = .ok (.invokevirtual 197, 3) := dk_182 0 197 (dk_at dksX2_byEnds_4 0 rfl rfl)
theorem dX2_byEnds_97 : decode cX2_byEnds 97 = .ok (.goto (-79), 3) := dk_167 255 177 (dk_at dksX2_byEnds_4 3 rfl rfl)
theorem dX2_byEnds_100 : decode cX2_byEnds 100 = .ok (.aload_n 1, 1) := dk_43 (dk_at dksX2_byEnds_4 6 rfl rfl)
theorem dX2_byEnds_101 : decode cX2_byEnds 101 = .ok (.areturn, 1) := dk_176 (dk_at dksX2_byEnds_4 7 rfl rfl)
abbrev cX2_roomFor : ByteArray := prog_12_method_23_code
def yX2_roomFor : MethodName := ⟨RX2, "roomFor", "(ILBoxSpans$Timed;)I"⟩
def dkwX2_roomFor_1 : List UInt8 := [182, 0, 106, 2, 160, 0, 5, 29, 172, 132, 3, 1, 167, 255, 223, 2, 172]
abbrev dktX2_roomFor_1 : List UInt8 := dkwX2_roomFor_1 ++ []
def dkwX2_roomFor_0 : List UInt8 := [3, 62, 29, 42, 182, 0, 78, 162, 0, 31, 42, 29, 182, 0, 110, 27, 161, 0, 16, 42, 29, 44, 2]
abbrev dktX2_roomFor_0 : List UInt8 := dkwX2_roomFor_0 ++ dktX2_roomFor_1
theorem dksX2_roomFor_0 : cX2_roomFor.data.toList.drop 0 = dktX2_roomFor_0 := by decide +kernel
theorem dksX2_roomFor_1 : cX2_roomFor.data.toList.drop 23 = dktX2_roomFor_1 := dk_seg dksX2_roomFor_0 23 rfl rfl
theorem dX2_roomFor_0 : decode cX2_roomFor 0 = .ok (.iconst 0, 1) := dk_3 (dk_at dksX2_roomFor_0 0 rfl rfl)
theorem dX2_roomFor_1 : decode cX2_roomFor 1 = .ok (.istore_n 3, 1) := dk_62 (dk_at dksX2_roomFor_0 1 rfl rfl)
theorem dX2_roomFor_2 : decode cX2_roomFor 2 = .ok (.iload_n 3, 1) := dk_29 (dk_at dksX2_roomFor_0 2 rfl rfl)
theorem dX2_roomFor_3 : decode cX2_roomFor 3 = .ok (.aload_n 0, 1) := dk_42 (dk_at dksX2_roomFor_0 3 rfl rfl)
theorem dX2_roomFor_4 : decode cX2_roomFor 4 = .ok (.invokevirtual 78, 3) := dk_182 0 78 (dk_at dksX2_roomFor_0 4 rfl rfl)
theorem dX2_roomFor_7 : decode cX2_roomFor 7 = .ok (.if_icmp .ge 31, 3) := dk_162 0 31 (dk_at dksX2_roomFor_0 7 rfl rfl)
theorem dX2_roomFor_10 : decode cX2_roomFor 10 = .ok (.aload_n 0, 1) := dk_42 (dk_at dksX2_roomFor_0 10 rfl rfl)
theorem dX2_roomFor_11 : decode cX2_roomFor 11 = .ok (.iload_n 3, 1) := dk_29 (dk_at dksX2_roomFor_0 11 rfl rfl)
theorem dX2_roomFor_12 : decode cX2_roomFor 12 = .ok (.invokevirtual 110, 3) := dk_182 0 110 (dk_at dksX2_roomFor_0 12 rfl rfl)
theorem dX2_roomFor_15 : decode cX2_roomFor 15 = .ok (.iload_n 1, 1) := dk_27 (dk_at dksX2_roomFor_0 15 rfl rfl)
theorem dX2_roomFor_16 : decode cX2_roomFor 16 = .ok (.if_icmp .lt 16, 3) := dk_161 0 16 (dk_at dksX2_roomFor_0 16 rfl rfl)
theorem dX2_roomFor_19 : decode cX2_roomFor 19 = .ok (.aload_n 0, 1) := dk_42 (dk_at dksX2_roomFor_0 19 rfl rfl)
theorem dX2_roomFor_20 : decode cX2_roomFor 20 = .ok (.iload_n 3, 1) := dk_29 (dk_at dksX2_roomFor_0 20 rfl rfl)
theorem dX2_roomFor_21 : decode cX2_roomFor 21 = .ok (.aload_n 2, 1) := dk_44 (dk_at dksX2_roomFor_0 21 rfl rfl)
theorem dX2_roomFor_22 : decode cX2_roomFor 22 = .ok (.iconst (-1), 1) := dk_2 (dk_at dksX2_roomFor_0 22 rfl rfl)
theorem dX2_roomFor_23 : decode cX2_roomFor 23 = .ok (.invokevirtual 106, 3) := dk_182 0 106 (dk_at dksX2_roomFor_1 0 rfl rfl)
theorem dX2_roomFor_26 : decode cX2_roomFor 26 = .ok (.iconst (-1), 1) := dk_2 (dk_at dksX2_roomFor_1 3 rfl rfl)
theorem dX2_roomFor_27 : decode cX2_roomFor 27 = .ok (.if_icmp .ne 5, 3) := dk_160 0 5 (dk_at dksX2_roomFor_1 4 rfl rfl)
theorem dX2_roomFor_30 : decode cX2_roomFor 30 = .ok (.iload_n 3, 1) := dk_29 (dk_at dksX2_roomFor_1 7 rfl rfl)
theorem dX2_roomFor_31 : decode cX2_roomFor 31 = .ok (.ireturn, 1) := dk_172 (dk_at dksX2_roomFor_1 8 rfl rfl)
theorem dX2_roomFor_32 : decode cX2_roomFor 32 = .ok (.iinc 3 1, 3) := dk_132 3 1 (dk_at dksX2_roomFor_1 9 rfl rfl)
theorem dX2_roomFor_35 : decode cX2_roomFor 35 = .ok (.goto (-33), 3) := dk_167 255 223 (dk_at dksX2_roomFor_1 12 rfl rfl)
theorem dX2_roomFor_38 : decode cX2_roomFor 38 = .ok (.iconst (-1), 1) := dk_2 (dk_at dksX2_roomFor_1 15 rfl rfl)
theorem dX2_roomFor_39 : decode cX2_roomFor 39 = .ok (.ireturn, 1) := dk_172 (dk_at dksX2_roomFor_1 16 rfl rfl)
abbrev cX2_numberOf : ByteArray := prog_12_method_26_code
def yX2_numberOf : MethodName := ⟨RX2, "numberOf", "(LBoxSpans$Wish;)I"⟩
def dkwX2_numberOf_0 : List UInt8 := [3, 61, 42, 180, 0, 21, 28, 185, 0, 69, 2, 0, 43, 165, 0, 9, 132, 2, 1, 167, 255, 239, 28, 172]
abbrev dktX2_numberOf_0 : List UInt8 := dkwX2_numberOf_0 ++ []
theorem dksX2_numberOf_0 : cX2_numberOf.data.toList.drop 0 = dktX2_numberOf_0 := by decide +kernel
theorem dX2_numberOf_0 : decode cX2_numberOf 0 = .ok (.iconst 0, 1) := dk_3 (dk_at dksX2_numberOf_0 0 rfl rfl)
theorem dX2_numberOf_1 : decode cX2_numberOf 1 = .ok (.istore_n 2, 1) := dk_61 (dk_at dksX2_numberOf_0 1 rfl rfl)
theorem dX2_numberOf_2 : decode cX2_numberOf 2 = .ok (.aload_n 0, 1) := dk_42 (dk_at dksX2_numberOf_0 2 rfl rfl)
theorem dX2_numberOf_3 : decode cX2_numberOf 3 = .ok (.getfield 21, 3) := dk_180 0 21 (dk_at dksX2_numberOf_0 3 rfl rfl)
theorem dX2_numberOf_6 : decode cX2_numberOf 6 = .ok (.iload_n 2, 1) := dk_28 (dk_at dksX2_numberOf_0 6 rfl rfl)
theorem dX2_numberOf_7 : decode cX2_numberOf 7 = .ok (.invokeinterface 69 2, 5) := by decide +kernel
theorem dX2_numberOf_12 : decode cX2_numberOf 12 = .ok (.aload_n 1, 1) := dk_43 (dk_at dksX2_numberOf_0 12 rfl rfl)
theorem dX2_numberOf_13 : decode cX2_numberOf 13 = .ok (.if_acmp .eq 9, 3) := dk_165 0 9 (dk_at dksX2_numberOf_0 13 rfl rfl)
theorem dX2_numberOf_16 : decode cX2_numberOf 16 = .ok (.iinc 2 1, 3) := dk_132 2 1 (dk_at dksX2_numberOf_0 16 rfl rfl)
theorem dX2_numberOf_19 : decode cX2_numberOf 19 = .ok (.goto (-17), 3) := dk_167 255 239 (dk_at dksX2_numberOf_0 19 rfl rfl)
theorem dX2_numberOf_22 : decode cX2_numberOf 22 = .ok (.iload_n 2, 1) := dk_28 (dk_at dksX2_numberOf_0 22 rfl rfl)
theorem dX2_numberOf_23 : decode cX2_numberOf 23 = .ok (.ireturn, 1) := dk_172 (dk_at dksX2_numberOf_0 23 rfl rfl)
abbrev cX2_spans : ByteArray := prog_12_method_33_code
def yX2_spans : MethodName := ⟨RX2, "spans", "(I)LBoxSpans$Runs;"⟩
def dkwX2_spans_0 : List UInt8 := [42, 27, 182, 0, 232, 77, 187, 0, 236, 89, 44, 186, 0, 238, 0, 0, 183, 0, 242, 176]
abbrev dktX2_spans_0 : List UInt8 := dkwX2_spans_0 ++ []
theorem dksX2_spans_0 : cX2_spans.data.toList.drop 0 = dktX2_spans_0 := by decide +kernel
theorem dX2_spans_0 : decode cX2_spans 0 = .ok (.aload_n 0, 1) := dk_42 (dk_at dksX2_spans_0 0 rfl rfl)
theorem dX2_spans_1 : decode cX2_spans 1 = .ok (.iload_n 1, 1) := dk_27 (dk_at dksX2_spans_0 1 rfl rfl)
theorem dX2_spans_2 : decode cX2_spans 2 = .ok (.invokevirtual 232, 3) := dk_182 0 232 (dk_at dksX2_spans_0 2 rfl rfl)
theorem dX2_spans_5 : decode cX2_spans 5 = .ok (.astore_n 2, 1) := dk_77 (dk_at dksX2_spans_0 5 rfl rfl)
theorem dX2_spans_6 : decode cX2_spans 6 = .ok (.new 236, 3) := dk_187 0 236 (dk_at dksX2_spans_0 6 rfl rfl)
theorem dX2_spans_9 : decode cX2_spans 9 = .ok (.dup, 1) := dk_89 (dk_at dksX2_spans_0 9 rfl rfl)
theorem dX2_spans_10 : decode cX2_spans 10 = .ok (.aload_n 2, 1) := dk_44 (dk_at dksX2_spans_0 10 rfl rfl)
theorem dX2_spans_11 : decode cX2_spans 11 = .ok (.invokedynamic 238, 5) := by decide +kernel
theorem dX2_spans_16 : decode cX2_spans 16 = .ok (.invokespecial 242, 3) := dk_183 0 242 (dk_at dksX2_spans_0 16 rfl rfl)
theorem dX2_spans_19 : decode cX2_spans 19 = .ok (.areturn, 1) := dk_176 (dk_at dksX2_spans_0 19 rfl rfl)
abbrev cX2_lit : ByteArray := prog_12_method_32_code
def yX2_lit : MethodName := ⟨RX2, "lit", "(I)[Z"⟩
def dkwX2_lit_3 : List UInt8 := [167, 255, 229, 167, 255, 199, 44, 176]
abbrev dktX2_lit_3 : List UInt8 := dkwX2_lit_3 ++ []
def dkwX2_lit_2 : List UInt8 := [182, 0, 93, 153, 0, 24, 21, 5, 25, 4, 182, 0, 167, 162, 0, 14, 44, 21, 5, 4, 84, 132, 5, 1]
abbrev dktX2_lit_2 : List UInt8 := dkwX2_lit_2 ++ dktX2_lit_3
def dkwX2_lit_1 : List UInt8 := [153, 0, 54, 45, 185, 0, 41, 1, 0, 192, 0, 45, 58, 4, 25, 4, 182, 0, 103, 54, 5, 25, 4, 27]
abbrev dktX2_lit_1 : List UInt8 := dkwX2_lit_1 ++ dktX2_lit_2
def dkwX2_lit_0 : List UInt8 := [17, 2, 88, 188, 4, 77, 42, 180, 0, 18, 185, 0, 31, 1, 0, 78, 45, 185, 0, 35, 1, 0]
abbrev dktX2_lit_0 : List UInt8 := dkwX2_lit_0 ++ dktX2_lit_1
theorem dksX2_lit_0 : cX2_lit.data.toList.drop 0 = dktX2_lit_0 := by decide +kernel
theorem dksX2_lit_1 : cX2_lit.data.toList.drop 22 = dktX2_lit_1 := dk_seg dksX2_lit_0 22 rfl rfl
theorem dksX2_lit_2 : cX2_lit.data.toList.drop 46 = dktX2_lit_2 := dk_seg dksX2_lit_1 24 rfl rfl
theorem dksX2_lit_3 : cX2_lit.data.toList.drop 70 = dktX2_lit_3 := dk_seg dksX2_lit_2 24 rfl rfl
theorem dX2_lit_0 : decode cX2_lit 0 = .ok (.sipush 600, 3) := dk_17 2 88 (dk_at dksX2_lit_0 0 rfl rfl)
theorem dX2_lit_3 : decode cX2_lit 3 = .ok (.newarray .boolean, 2) := dk_188_4 (dk_at dksX2_lit_0 3 rfl rfl)
theorem dX2_lit_5 : decode cX2_lit 5 = .ok (.astore_n 2, 1) := dk_77 (dk_at dksX2_lit_0 5 rfl rfl)
theorem dX2_lit_6 : decode cX2_lit 6 = .ok (.aload_n 0, 1) := dk_42 (dk_at dksX2_lit_0 6 rfl rfl)
theorem dX2_lit_7 : decode cX2_lit 7 = .ok (.getfield 18, 3) := dk_180 0 18 (dk_at dksX2_lit_0 7 rfl rfl)
theorem dX2_lit_10 : decode cX2_lit 10 = .ok (.invokeinterface 31 1, 5) := by decide +kernel
theorem dX2_lit_15 : decode cX2_lit 15 = .ok (.astore_n 3, 1) := dk_78 (dk_at dksX2_lit_0 15 rfl rfl)
theorem dX2_lit_16 : decode cX2_lit 16 = .ok (.aload_n 3, 1) := dk_45 (dk_at dksX2_lit_0 16 rfl rfl)
theorem dX2_lit_17 : decode cX2_lit 17 = .ok (.invokeinterface 35 1, 5) := by decide +kernel
theorem dX2_lit_22 : decode cX2_lit 22 = .ok (.ifCond .eq 54, 3) := dk_153 0 54 (dk_at dksX2_lit_1 0 rfl rfl)
theorem dX2_lit_25 : decode cX2_lit 25 = .ok (.aload_n 3, 1) := dk_45 (dk_at dksX2_lit_1 3 rfl rfl)
theorem dX2_lit_26 : decode cX2_lit 26 = .ok (.invokeinterface 41 1, 5) := by decide +kernel
theorem dX2_lit_31 : decode cX2_lit 31 = .ok (.checkcast 45, 3) := dk_192 0 45 (dk_at dksX2_lit_1 9 rfl rfl)
theorem dX2_lit_34 : decode cX2_lit 34 = .ok (.astore 4, 2) := dk_58 4 (dk_at dksX2_lit_1 12 rfl rfl)
theorem dX2_lit_36 : decode cX2_lit 36 = .ok (.aload 4, 2) := dk_25 4 (dk_at dksX2_lit_1 14 rfl rfl)
theorem dX2_lit_38 : decode cX2_lit 38 = .ok (.invokevirtual 103, 3) := dk_182 0 103 (dk_at dksX2_lit_1 16 rfl rfl)
theorem dX2_lit_41 : decode cX2_lit 41 = .ok (.istore 5, 2) := dk_54 5 (dk_at dksX2_lit_1 19 rfl rfl)
theorem dX2_lit_43 : decode cX2_lit 43 = .ok (.aload 4, 2) := dk_25 4 (dk_at dksX2_lit_1 21 rfl rfl)
theorem dX2_lit_45 : decode cX2_lit 45 = .ok (.iload_n 1, 1) := dk_27 (dk_at dksX2_lit_1 23 rfl rfl)
theorem dX2_lit_46 : decode cX2_lit 46 = .ok (.invokevirtual 93, 3) := dk_182 0 93 (dk_at dksX2_lit_2 0 rfl rfl)
theorem dX2_lit_49 : decode cX2_lit 49 = .ok (.ifCond .eq 24, 3) := dk_153 0 24 (dk_at dksX2_lit_2 3 rfl rfl)
theorem dX2_lit_52 : decode cX2_lit 52 = .ok (.iload 5, 2) := dk_21 5 (dk_at dksX2_lit_2 6 rfl rfl)
theorem dX2_lit_54 : decode cX2_lit 54 = .ok (.aload 4, 2) := dk_25 4 (dk_at dksX2_lit_2 8 rfl rfl)
theorem dX2_lit_56 : decode cX2_lit 56 = .ok (.invokevirtual 167, 3) := dk_182 0 167 (dk_at dksX2_lit_2 10 rfl rfl)
theorem dX2_lit_59 : decode cX2_lit 59 = .ok (.if_icmp .ge 14, 3) := dk_162 0 14 (dk_at dksX2_lit_2 13 rfl rfl)
theorem dX2_lit_62 : decode cX2_lit 62 = .ok (.aload_n 2, 1) := dk_44 (dk_at dksX2_lit_2 16 rfl rfl)
theorem dX2_lit_63 : decode cX2_lit 63 = .ok (.iload 5, 2) := dk_21 5 (dk_at dksX2_lit_2 17 rfl rfl)
theorem dX2_lit_65 : decode cX2_lit 65 = .ok (.iconst 1, 1) := dk_4 (dk_at dksX2_lit_2 19 rfl rfl)
theorem dX2_lit_66 : decode cX2_lit 66 = .ok (.bastore, 1) := dk_84 (dk_at dksX2_lit_2 20 rfl rfl)
theorem dX2_lit_67 : decode cX2_lit 67 = .ok (.iinc 5 1, 3) := dk_132 5 1 (dk_at dksX2_lit_2 21 rfl rfl)
theorem dX2_lit_70 : decode cX2_lit 70 = .ok (.goto (-27), 3) := dk_167 255 229 (dk_at dksX2_lit_3 0 rfl rfl)
theorem dX2_lit_73 : decode cX2_lit 73 = .ok (.goto (-57), 3) := dk_167 255 199 (dk_at dksX2_lit_3 3 rfl rfl)
theorem dX2_lit_76 : decode cX2_lit 76 = .ok (.aload_n 2, 1) := dk_44 (dk_at dksX2_lit_3 6 rfl rfl)
theorem dX2_lit_77 : decode cX2_lit 77 = .ok (.areturn, 1) := dk_176 (dk_at dksX2_lit_3 7 rfl rfl)
abbrev cX2_lambda_spans_0 : ByteArray := prog_12_method_42_code
def yX2_lambda_spans_0 : MethodName := ⟨RX2, "lambda$spans$0", "([ZI)Z"⟩
def dkwX2_lambda_spans_0_0 : List UInt8 := [42, 27, 51, 172]
abbrev dktX2_lambda_spans_0_0 : List UInt8 := dkwX2_lambda_spans_0_0 ++ []
theorem dksX2_lambda_spans_0_0 : cX2_lambda_spans_0.data.toList.drop 0 = dktX2_lambda_spans_0_0 := by decide +kernel
theorem dX2_lambda_spans_0_0 : decode cX2_lambda_spans_0 0 = .ok (.aload_n 0, 1) := dk_42 (dk_at dksX2_lambda_spans_0_0 0 rfl rfl)
theorem dX2_lambda_spans_0_1 : decode cX2_lambda_spans_0 1 = .ok (.iload_n 1, 1) := dk_27 (dk_at dksX2_lambda_spans_0_0 1 rfl rfl)
theorem dX2_lambda_spans_0_2 : decode cX2_lambda_spans_0 2 = .ok (.baload, 1) := dk_51 (dk_at dksX2_lambda_spans_0_0 2 rfl rfl)
theorem dX2_lambda_spans_0_3 : decode cX2_lambda_spans_0 3 = .ok (.ireturn, 1) := dk_172 (dk_at dksX2_lambda_spans_0_0 3 rfl rfl)
abbrev cX2_gaps : ByteArray := prog_12_method_34_code
def yX2_gaps : MethodName := ⟨RX2, "gaps", "(I)LBoxSpans$Runs;"⟩
def dkwX2_gaps_0 : List UInt8 := [42, 27, 182, 0, 232, 77, 187, 0, 236, 89, 44, 186, 0, 245, 0, 0, 183, 0, 242, 176]
abbrev dktX2_gaps_0 : List UInt8 := dkwX2_gaps_0 ++ []
theorem dksX2_gaps_0 : cX2_gaps.data.toList.drop 0 = dktX2_gaps_0 := by decide +kernel
theorem dX2_gaps_0 : decode cX2_gaps 0 = .ok (.aload_n 0, 1) := dk_42 (dk_at dksX2_gaps_0 0 rfl rfl)
theorem dX2_gaps_1 : decode cX2_gaps 1 = .ok (.iload_n 1, 1) := dk_27 (dk_at dksX2_gaps_0 1 rfl rfl)
theorem dX2_gaps_2 : decode cX2_gaps 2 = .ok (.invokevirtual 232, 3) := dk_182 0 232 (dk_at dksX2_gaps_0 2 rfl rfl)
theorem dX2_gaps_5 : decode cX2_gaps 5 = .ok (.astore_n 2, 1) := dk_77 (dk_at dksX2_gaps_0 5 rfl rfl)
theorem dX2_gaps_6 : decode cX2_gaps 6 = .ok (.new 236, 3) := dk_187 0 236 (dk_at dksX2_gaps_0 6 rfl rfl)
theorem dX2_gaps_9 : decode cX2_gaps 9 = .ok (.dup, 1) := dk_89 (dk_at dksX2_gaps_0 9 rfl rfl)
theorem dX2_gaps_10 : decode cX2_gaps 10 = .ok (.aload_n 2, 1) := dk_44 (dk_at dksX2_gaps_0 10 rfl rfl)
theorem dX2_gaps_11 : decode cX2_gaps 11 = .ok (.invokedynamic 245, 5) := by decide +kernel
theorem dX2_gaps_16 : decode cX2_gaps 16 = .ok (.invokespecial 242, 3) := dk_183 0 242 (dk_at dksX2_gaps_0 16 rfl rfl)
theorem dX2_gaps_19 : decode cX2_gaps 19 = .ok (.areturn, 1) := dk_176 (dk_at dksX2_gaps_0 19 rfl rfl)
abbrev cX2_lambda_gaps_1 : ByteArray := prog_12_method_41_code
def yX2_lambda_gaps_1 : MethodName := ⟨RX2, "lambda$gaps$1", "([ZI)Z"⟩
def dkwX2_lambda_gaps_1_0 : List UInt8 := [42, 27, 51, 154, 0, 7, 4, 167, 0, 4, 3, 172]
abbrev dktX2_lambda_gaps_1_0 : List UInt8 := dkwX2_lambda_gaps_1_0 ++ []
theorem dksX2_lambda_gaps_1_0 : cX2_lambda_gaps_1.data.toList.drop 0 = dktX2_lambda_gaps_1_0 := by decide +kernel
theorem dX2_lambda_gaps_1_0 : decode cX2_lambda_gaps_1 0 = .ok (.aload_n 0, 1) := dk_42 (dk_at dksX2_lambda_gaps_1_0 0 rfl rfl)
theorem dX2_lambda_gaps_1_1 : decode cX2_lambda_gaps_1 1 = .ok (.iload_n 1, 1) := dk_27 (dk_at dksX2_lambda_gaps_1_0 1 rfl rfl)
theorem dX2_lambda_gaps_1_2 : decode cX2_lambda_gaps_1 2 = .ok (.baload, 1) := dk_51 (dk_at dksX2_lambda_gaps_1_0 2 rfl rfl)
theorem dX2_lambda_gaps_1_3 : decode cX2_lambda_gaps_1 3 = .ok (.ifCond .ne 7, 3) := dk_154 0 7 (dk_at dksX2_lambda_gaps_1_0 3 rfl rfl)
theorem dX2_lambda_gaps_1_6 : decode cX2_lambda_gaps_1 6 = .ok (.iconst 1, 1) := dk_4 (dk_at dksX2_lambda_gaps_1_0 6 rfl rfl)
theorem dX2_lambda_gaps_1_7 : decode cX2_lambda_gaps_1 7 = .ok (.goto 4, 3) := dk_167 0 4 (dk_at dksX2_lambda_gaps_1_0 7 rfl rfl)
theorem dX2_lambda_gaps_1_10 : decode cX2_lambda_gaps_1 10 = .ok (.iconst 0, 1) := dk_3 (dk_at dksX2_lambda_gaps_1_0 10 rfl rfl)
theorem dX2_lambda_gaps_1_11 : decode cX2_lambda_gaps_1 11 = .ok (.ireturn, 1) := dk_172 (dk_at dksX2_lambda_gaps_1_0 11 rfl rfl)
abbrev cX2_ranked : ByteArray := prog_12_method_38_code
def yX2_ranked : MethodName := ⟨RX2, "ranked", "()Ljava/util/List;"⟩
def dkwX2_ranked_3 : List UInt8 := [167, 255, 213, 43, 29, 28, 184, 0, 85, 182, 0, 197, 132, 2, 1, 167, 255, 182, 43, 176]
abbrev dktX2_ranked_3 : List UInt8 := dkwX2_ranked_3 ++ []
def dkwX2_ranked_2 : List UInt8 := [182, 0, 75, 54, 5, 29, 42, 21, 5, 28, 182, 0, 249, 153, 0, 7, 4, 167, 0, 4, 3, 96, 62]
abbrev dktX2_ranked_2 : List UInt8 := dkwX2_ranked_2 ++ dktX2_ranked_3
def dkwX2_ranked_1 : List UInt8 := [58, 4, 25, 4, 185, 0, 35, 1, 0, 153, 0, 39, 25, 4, 185, 0, 41, 1, 0, 192, 0, 73]
abbrev dktX2_ranked_1 : List UInt8 := dkwX2_ranked_1 ++ dktX2_ranked_2
def dkwX2_ranked_0 : List UInt8 := [187, 0, 189, 89, 183, 0, 191, 76, 3, 61, 28, 42, 182, 0, 78, 162, 0, 72, 3, 62, 43, 182, 0, 192]
abbrev dktX2_ranked_0 : List UInt8 := dkwX2_ranked_0 ++ dktX2_ranked_1
theorem dksX2_ranked_0 : cX2_ranked.data.toList.drop 0 = dktX2_ranked_0 := by decide +kernel
theorem dksX2_ranked_1 : cX2_ranked.data.toList.drop 24 = dktX2_ranked_1 := dk_seg dksX2_ranked_0 24 rfl rfl
theorem dksX2_ranked_2 : cX2_ranked.data.toList.drop 46 = dktX2_ranked_2 := dk_seg dksX2_ranked_1 22 rfl rfl
theorem dksX2_ranked_3 : cX2_ranked.data.toList.drop 69 = dktX2_ranked_3 := dk_seg dksX2_ranked_2 23 rfl rfl
theorem dX2_ranked_0 : decode cX2_ranked 0 = .ok (.new 189, 3) := dk_187 0 189 (dk_at dksX2_ranked_0 0 rfl rfl)
theorem dX2_ranked_3 : decode cX2_ranked 3 = .ok (.dup, 1) := dk_89 (dk_at dksX2_ranked_0 3 rfl rfl)
theorem dX2_ranked_4 : decode cX2_ranked 4 = .ok (.invokespecial 191, 3) := dk_183 0 191 (dk_at dksX2_ranked_0 4 rfl rfl)
theorem dX2_ranked_7 : decode cX2_ranked 7 = .ok (.astore_n 1, 1) := dk_76 (dk_at dksX2_ranked_0 7 rfl rfl)
theorem dX2_ranked_8 : decode cX2_ranked 8 = .ok (.iconst 0, 1) := dk_3 (dk_at dksX2_ranked_0 8 rfl rfl)
theorem dX2_ranked_9 : decode cX2_ranked 9 = .ok (.istore_n 2, 1) := dk_61 (dk_at dksX2_ranked_0 9 rfl rfl)
theorem dX2_ranked_10 : decode cX2_ranked 10 = .ok (.iload_n 2, 1) := dk_28 (dk_at dksX2_ranked_0 10 rfl rfl)
theorem dX2_ranked_11 : decode cX2_ranked 11 = .ok (.aload_n 0, 1) := dk_42 (dk_at dksX2_ranked_0 11 rfl rfl)
theorem dX2_ranked_12 : decode cX2_ranked 12 = .ok (.invokevirtual 78, 3) := dk_182 0 78 (dk_at dksX2_ranked_0 12 rfl rfl)
theorem dX2_ranked_15 : decode cX2_ranked 15 = .ok (.if_icmp .ge 72, 3) := dk_162 0 72 (dk_at dksX2_ranked_0 15 rfl rfl)
theorem dX2_ranked_18 : decode cX2_ranked 18 = .ok (.iconst 0, 1) := dk_3 (dk_at dksX2_ranked_0 18 rfl rfl)
theorem dX2_ranked_19 : decode cX2_ranked 19 = .ok (.istore_n 3, 1) := dk_62 (dk_at dksX2_ranked_0 19 rfl rfl)
theorem dX2_ranked_20 : decode cX2_ranked 20 = .ok (.aload_n 1, 1) := dk_43 (dk_at dksX2_ranked_0 20 rfl rfl)
theorem dX2_ranked_21 : decode cX2_ranked 21 = .ok (.invokevirtual 192, 3) := dk_182 0 192 (dk_at dksX2_ranked_0 21 rfl rfl)
theorem dX2_ranked_24 : decode cX2_ranked 24 = .ok (.astore 4, 2) := dk_58 4 (dk_at dksX2_ranked_1 0 rfl rfl)
theorem dX2_ranked_26 : decode cX2_ranked 26 = .ok (.aload 4, 2) := dk_25 4 (dk_at dksX2_ranked_1 2 rfl rfl)
theorem dX2_ranked_28 : decode cX2_ranked 28 = .ok (.invokeinterface 35 1, 5) := by decide +kernel
theorem dX2_ranked_33 : decode cX2_ranked 33 = .ok (.ifCond .eq 39, 3) := dk_153 0 39 (dk_at dksX2_ranked_1 9 rfl rfl)
theorem dX2_ranked_36 : decode cX2_ranked 36 = .ok (.aload 4, 2) := dk_25 4 (dk_at dksX2_ranked_1 12 rfl rfl)
theorem dX2_ranked_38 : decode cX2_ranked 38 = .ok (.invokeinterface 41 1, 5) := by decide +kernel
theorem dX2_ranked_43 : decode cX2_ranked 43 = .ok (.checkcast 73, 3) := dk_192 0 73 (dk_at dksX2_ranked_1 19 rfl rfl)
theorem dX2_ranked_46 : decode cX2_ranked 46 = .ok (.invokevirtual 75, 3) := dk_182 0 75 (dk_at dksX2_ranked_2 0 rfl rfl)
theorem dX2_ranked_49 : decode cX2_ranked 49 = .ok (.istore 5, 2) := dk_54 5 (dk_at dksX2_ranked_2 3 rfl rfl)
theorem dX2_ranked_51 : decode cX2_ranked 51 = .ok (.iload_n 3, 1) := dk_29 (dk_at dksX2_ranked_2 5 rfl rfl)
theorem dX2_ranked_52 : decode cX2_ranked 52 = .ok (.aload_n 0, 1) := dk_42 (dk_at dksX2_ranked_2 6 rfl rfl)
theorem dX2_ranked_53 : decode cX2_ranked 53 = .ok (.iload 5, 2) := dk_21 5 (dk_at dksX2_ranked_2 7 rfl rfl)
theorem dX2_ranked_55 : decode cX2_ranked 55 = .ok (.iload_n 2, 1) := dk_28 (dk_at dksX2_ranked_2 9 rfl rfl)
theorem dX2_ranked_56 : decode cX2_ranked 56 = .ok (.invokevirtual 249, 3) := dk_182 0 249 (dk_at dksX2_ranked_2 10 rfl rfl)
theorem dX2_ranked_59 : decode cX2_ranked 59 = .ok (.ifCond .eq 7, 3) := dk_153 0 7 (dk_at dksX2_ranked_2 13 rfl rfl)
theorem dX2_ranked_62 : decode cX2_ranked 62 = .ok (.iconst 1, 1) := dk_4 (dk_at dksX2_ranked_2 16 rfl rfl)
theorem dX2_ranked_63 : decode cX2_ranked 63 = .ok (.goto 4, 3) := dk_167 0 4 (dk_at dksX2_ranked_2 17 rfl rfl)
theorem dX2_ranked_66 : decode cX2_ranked 66 = .ok (.iconst 0, 1) := dk_3 (dk_at dksX2_ranked_2 20 rfl rfl)
theorem dX2_ranked_67 : decode cX2_ranked 67 = .ok (.iadd, 1) := dk_96 (dk_at dksX2_ranked_2 21 rfl rfl)
theorem dX2_ranked_68 : decode cX2_ranked 68 = .ok (.istore_n 3, 1) := dk_62 (dk_at dksX2_ranked_2 22 rfl rfl)
theorem dX2_ranked_69 : decode cX2_ranked 69 = .ok (.goto (-43), 3) := dk_167 255 213 (dk_at dksX2_ranked_3 0 rfl rfl)
theorem dX2_ranked_72 : decode cX2_ranked 72 = .ok (.aload_n 1, 1) := dk_43 (dk_at dksX2_ranked_3 3 rfl rfl)
theorem dX2_ranked_73 : decode cX2_ranked 73 = .ok (.iload_n 3, 1) := dk_29 (dk_at dksX2_ranked_3 4 rfl rfl)
theorem dX2_ranked_74 : decode cX2_ranked 74 = .ok (.iload_n 2, 1) := dk_28 (dk_at dksX2_ranked_3 5 rfl rfl)
theorem dX2_ranked_75 : decode cX2_ranked 75 = .ok (.invokestatic 85, 3) := dk_184 0 85 (dk_at dksX2_ranked_3 6 rfl rfl)
theorem dX2_ranked_78 : decode cX2_ranked 78 = .ok (.invokevirtual 197, 3) := dk_182 0 197 (dk_at dksX2_ranked_3 9 rfl rfl)
theorem dX2_ranked_81 : decode cX2_ranked 81 = .ok (.iinc 2 1, 3) := dk_132 2 1 (dk_at dksX2_ranked_3 12 rfl rfl)
theorem dX2_ranked_84 : decode cX2_ranked 84 = .ok (.goto (-74), 3) := dk_167 255 182 (dk_at dksX2_ranked_3 15 rfl rfl)
theorem dX2_ranked_87 : decode cX2_ranked 87 = .ok (.aload_n 1, 1) := dk_43 (dk_at dksX2_ranked_3 18 rfl rfl)
theorem dX2_ranked_88 : decode cX2_ranked 88 = .ok (.areturn, 1) := dk_176 (dk_at dksX2_ranked_3 19 rfl rfl)
abbrev cX2_isAhead : ByteArray := prog_12_method_37_code
def yX2_isAhead : MethodName := ⟨RX2, "isAhead", "(II)Z"⟩
def dkwX2_isAhead_2 : List UInt8 := [167, 0, 4, 3, 172]
abbrev dktX2_isAhead_2 : List UInt8 := dkwX2_isAhead_2 ++ []
def dkwX2_isAhead_1 : List UInt8 := [27, 182, 0, 110, 100, 167, 0, 4, 29, 62, 29, 157, 0, 12, 29, 154, 0, 12, 27, 28, 162, 0, 7, 4]
abbrev dktX2_isAhead_1 : List UInt8 := dkwX2_isAhead_1 ++ dktX2_isAhead_2
def dkwX2_isAhead_0 : List UInt8 := [42, 27, 4, 182, 0, 246, 42, 28, 4, 182, 0, 246, 100, 62, 29, 154, 0, 17, 42, 28, 182, 0, 110, 42]
abbrev dktX2_isAhead_0 : List UInt8 := dkwX2_isAhead_0 ++ dktX2_isAhead_1
theorem dksX2_isAhead_0 : cX2_isAhead.data.toList.drop 0 = dktX2_isAhead_0 := by decide +kernel
theorem dksX2_isAhead_1 : cX2_isAhead.data.toList.drop 24 = dktX2_isAhead_1 := dk_seg dksX2_isAhead_0 24 rfl rfl
theorem dksX2_isAhead_2 : cX2_isAhead.data.toList.drop 48 = dktX2_isAhead_2 := dk_seg dksX2_isAhead_1 24 rfl rfl
theorem dX2_isAhead_0 : decode cX2_isAhead 0 = .ok (.aload_n 0, 1) := dk_42 (dk_at dksX2_isAhead_0 0 rfl rfl)
theorem dX2_isAhead_1 : decode cX2_isAhead 1 = .ok (.iload_n 1, 1) := dk_27 (dk_at dksX2_isAhead_0 1 rfl rfl)
theorem dX2_isAhead_2 : decode cX2_isAhead 2 = .ok (.iconst 1, 1) := dk_4 (dk_at dksX2_isAhead_0 2 rfl rfl)
theorem dX2_isAhead_3 : decode cX2_isAhead 3 = .ok (.invokevirtual 246, 3) := dk_182 0 246 (dk_at dksX2_isAhead_0 3 rfl rfl)
theorem dX2_isAhead_6 : decode cX2_isAhead 6 = .ok (.aload_n 0, 1) := dk_42 (dk_at dksX2_isAhead_0 6 rfl rfl)
theorem dX2_isAhead_7 : decode cX2_isAhead 7 = .ok (.iload_n 2, 1) := dk_28 (dk_at dksX2_isAhead_0 7 rfl rfl)
theorem dX2_isAhead_8 : decode cX2_isAhead 8 = .ok (.iconst 1, 1) := dk_4 (dk_at dksX2_isAhead_0 8 rfl rfl)
theorem dX2_isAhead_9 : decode cX2_isAhead 9 = .ok (.invokevirtual 246, 3) := dk_182 0 246 (dk_at dksX2_isAhead_0 9 rfl rfl)
theorem dX2_isAhead_12 : decode cX2_isAhead 12 = .ok (.isub, 1) := dk_100 (dk_at dksX2_isAhead_0 12 rfl rfl)
theorem dX2_isAhead_13 : decode cX2_isAhead 13 = .ok (.istore_n 3, 1) := dk_62 (dk_at dksX2_isAhead_0 13 rfl rfl)
theorem dX2_isAhead_14 : decode cX2_isAhead 14 = .ok (.iload_n 3, 1) := dk_29 (dk_at dksX2_isAhead_0 14 rfl rfl)
theorem dX2_isAhead_15 : decode cX2_isAhead 15 = .ok (.ifCond .ne 17, 3) := dk_154 0 17 (dk_at dksX2_isAhead_0 15 rfl rfl)
theorem dX2_isAhead_18 : decode cX2_isAhead 18 = .ok (.aload_n 0, 1) := dk_42 (dk_at dksX2_isAhead_0 18 rfl rfl)
theorem dX2_isAhead_19 : decode cX2_isAhead 19 = .ok (.iload_n 2, 1) := dk_28 (dk_at dksX2_isAhead_0 19 rfl rfl)
theorem dX2_isAhead_20 : decode cX2_isAhead 20 = .ok (.invokevirtual 110, 3) := dk_182 0 110 (dk_at dksX2_isAhead_0 20 rfl rfl)
theorem dX2_isAhead_23 : decode cX2_isAhead 23 = .ok (.aload_n 0, 1) := dk_42 (dk_at dksX2_isAhead_0 23 rfl rfl)
theorem dX2_isAhead_24 : decode cX2_isAhead 24 = .ok (.iload_n 1, 1) := dk_27 (dk_at dksX2_isAhead_1 0 rfl rfl)
theorem dX2_isAhead_25 : decode cX2_isAhead 25 = .ok (.invokevirtual 110, 3) := dk_182 0 110 (dk_at dksX2_isAhead_1 1 rfl rfl)
theorem dX2_isAhead_28 : decode cX2_isAhead 28 = .ok (.isub, 1) := dk_100 (dk_at dksX2_isAhead_1 4 rfl rfl)
theorem dX2_isAhead_29 : decode cX2_isAhead 29 = .ok (.goto 4, 3) := dk_167 0 4 (dk_at dksX2_isAhead_1 5 rfl rfl)
theorem dX2_isAhead_32 : decode cX2_isAhead 32 = .ok (.iload_n 3, 1) := dk_29 (dk_at dksX2_isAhead_1 8 rfl rfl)
theorem dX2_isAhead_33 : decode cX2_isAhead 33 = .ok (.istore_n 3, 1) := dk_62 (dk_at dksX2_isAhead_1 9 rfl rfl)
theorem dX2_isAhead_34 : decode cX2_isAhead 34 = .ok (.iload_n 3, 1) := dk_29 (dk_at dksX2_isAhead_1 10 rfl rfl)
theorem dX2_isAhead_35 : decode cX2_isAhead 35 = .ok (.ifCond .gt 12, 3) := dk_157 0 12 (dk_at dksX2_isAhead_1 11 rfl rfl)
theorem dX2_isAhead_38 : decode cX2_isAhead 38 = .ok (.iload_n 3, 1) := dk_29 (dk_at dksX2_isAhead_1 14 rfl rfl)
theorem dX2_isAhead_39 : decode cX2_isAhead 39 = .ok (.ifCond .ne 12, 3) := dk_154 0 12 (dk_at dksX2_isAhead_1 15 rfl rfl)
theorem dX2_isAhead_42 : decode cX2_isAhead 42 = .ok (.iload_n 1, 1) := dk_27 (dk_at dksX2_isAhead_1 18 rfl rfl)
theorem dX2_isAhead_43 : decode cX2_isAhead 43 = .ok (.iload_n 2, 1) := dk_28 (dk_at dksX2_isAhead_1 19 rfl rfl)
theorem dX2_isAhead_44 : decode cX2_isAhead 44 = .ok (.if_icmp .ge 7, 3) := dk_162 0 7 (dk_at dksX2_isAhead_1 20 rfl rfl)
theorem dX2_isAhead_47 : decode cX2_isAhead 47 = .ok (.iconst 1, 1) := dk_4 (dk_at dksX2_isAhead_1 23 rfl rfl)
theorem dX2_isAhead_48 : decode cX2_isAhead 48 = .ok (.goto 4, 3) := dk_167 0 4 (dk_at dksX2_isAhead_2 0 rfl rfl)
theorem dX2_isAhead_51 : decode cX2_isAhead 51 = .ok (.iconst 0, 1) := dk_3 (dk_at dksX2_isAhead_2 3 rfl rfl)
theorem dX2_isAhead_52 : decode cX2_isAhead 52 = .ok (.ireturn, 1) := dk_172 (dk_at dksX2_isAhead_2 4 rfl rfl)
abbrev cX2_byMinutes : ByteArray := prog_12_method_39_code
def yX2_byMinutes : MethodName := ⟨RX2, "byMinutes", "(I)Ljava/util/List;"⟩
def dkwX2_byMinutes_5 : List UInt8 := [167, 255, 162, 44, 176]
abbrev dktX2_byMinutes_5 : List UInt8 := dkwX2_byMinutes_5 ++ []
def dkwX2_byMinutes_4 : List UInt8 := [162, 0, 7, 4, 167, 0, 4, 3, 96, 54, 5, 167, 255, 211, 44, 21, 5, 25, 4, 182, 0, 197]
abbrev dktX2_byMinutes_4 : List UInt8 := dkwX2_byMinutes_4 ++ dktX2_byMinutes_5
def dkwX2_byMinutes_3 : List UInt8 := [185, 0, 41, 1, 0, 192, 0, 45, 58, 7, 21, 5, 25, 7, 182, 0, 103, 25, 4, 182, 0, 103]
abbrev dktX2_byMinutes_3 : List UInt8 := dkwX2_byMinutes_3 ++ dktX2_byMinutes_4
def dkwX2_byMinutes_2 : List UInt8 := [54, 5, 44, 182, 0, 192, 58, 6, 25, 6, 185, 0, 35, 1, 0, 153, 0, 41, 25, 6]
abbrev dktX2_byMinutes_2 : List UInt8 := dkwX2_byMinutes_2 ++ dktX2_byMinutes_3
def dkwX2_byMinutes_1 : List UInt8 := [153, 0, 91, 45, 185, 0, 41, 1, 0, 192, 0, 45, 58, 4, 25, 4, 27, 182, 0, 93, 153, 0, 68, 3]
abbrev dktX2_byMinutes_1 : List UInt8 := dkwX2_byMinutes_1 ++ dktX2_byMinutes_2
def dkwX2_byMinutes_0 : List UInt8 := [187, 0, 189, 89, 183, 0, 191, 77, 42, 180, 0, 18, 185, 0, 31, 1, 0, 78, 45, 185, 0, 35, 1, 0]
abbrev dktX2_byMinutes_0 : List UInt8 := dkwX2_byMinutes_0 ++ dktX2_byMinutes_1
theorem dksX2_byMinutes_0 : cX2_byMinutes.data.toList.drop 0 = dktX2_byMinutes_0 := by decide +kernel
theorem dksX2_byMinutes_1 : cX2_byMinutes.data.toList.drop 24 = dktX2_byMinutes_1 := dk_seg dksX2_byMinutes_0 24 rfl rfl
theorem dksX2_byMinutes_2 : cX2_byMinutes.data.toList.drop 48 = dktX2_byMinutes_2 := dk_seg dksX2_byMinutes_1 24 rfl rfl
theorem dksX2_byMinutes_3 : cX2_byMinutes.data.toList.drop 68 = dktX2_byMinutes_3 := dk_seg dksX2_byMinutes_2 20 rfl rfl
theorem dksX2_byMinutes_4 : cX2_byMinutes.data.toList.drop 90 = dktX2_byMinutes_4 := dk_seg dksX2_byMinutes_3 22 rfl rfl
theorem dksX2_byMinutes_5 : cX2_byMinutes.data.toList.drop 112 = dktX2_byMinutes_5 := dk_seg dksX2_byMinutes_4 22 rfl rfl
theorem dX2_byMinutes_0 : decode cX2_byMinutes 0 = .ok (.new 189, 3) := dk_187 0 189 (dk_at dksX2_byMinutes_0 0 rfl rfl)
theorem dX2_byMinutes_3 : decode cX2_byMinutes 3 = .ok (.dup, 1) := dk_89 (dk_at dksX2_byMinutes_0 3 rfl rfl)
theorem dX2_byMinutes_4 : decode cX2_byMinutes 4 = .ok (.invokespecial 191, 3) := dk_183 0 191 (dk_at dksX2_byMinutes_0 4 rfl rfl)
theorem dX2_byMinutes_7 : decode cX2_byMinutes 7 = .ok (.astore_n 2, 1) := dk_77 (dk_at dksX2_byMinutes_0 7 rfl rfl)
theorem dX2_byMinutes_8 : decode cX2_byMinutes 8 = .ok (.aload_n 0, 1) := dk_42 (dk_at dksX2_byMinutes_0 8 rfl rfl)
theorem dX2_byMinutes_9 : decode cX2_byMinutes 9 = .ok (.getfield 18, 3) := dk_180 0 18 (dk_at dksX2_byMinutes_0 9 rfl rfl)
theorem dX2_byMinutes_12 : decode cX2_byMinutes 12 = .ok (.invokeinterface 31 1, 5) := by decide +kernel
theorem dX2_byMinutes_17 : decode cX2_byMinutes 17 = .ok (.astore_n 3, 1) := dk_78 (dk_at dksX2_byMinutes_0 17 rfl rfl)
theorem dX2_byMinutes_18 : decode cX2_byMinutes 18 = .ok (.aload_n 3, 1) := dk_45 (dk_at dksX2_byMinutes_0 18 rfl rfl)
theorem dX2_byMinutes_19 : decode cX2_byMinutes 19 = .ok (.invokeinterface 35 1, 5) := by decide +kernel
theorem dX2_byMinutes_24 : decode cX2_byMinutes 24 = .ok (.ifCond .eq 91, 3) := dk_153 0 91 (dk_at dksX2_byMinutes_1 0 rfl rfl)
theorem dX2_byMinutes_27 : decode cX2_byMinutes 27 = .ok (.aload_n 3, 1) := dk_45 (dk_at dksX2_byMinutes_1 3 rfl rfl)
theorem dX2_byMinutes_28 : decode cX2_byMinutes 28 = .ok (.invokeinterface 41 1, 5) := by decide +kernel
theorem dX2_byMinutes_33 : decode cX2_byMinutes 33 = .ok (.checkcast 45, 3) := dk_192 0 45 (dk_at dksX2_byMinutes_1 9 rfl rfl)
theorem dX2_byMinutes_36 : decode cX2_byMinutes 36 = .ok (.astore 4, 2) := dk_58 4 (dk_at dksX2_byMinutes_1 12 rfl rfl)
theorem dX2_byMinutes_38 : decode cX2_byMinutes 38 = .ok (.aload 4, 2) := dk_25 4 (dk_at dksX2_byMinutes_1 14 rfl rfl)
theorem dX2_byMinutes_40 : decode cX2_byMinutes 40 = .ok (.iload_n 1, 1) := dk_27 (dk_at dksX2_byMinutes_1 16 rfl rfl)
theorem dX2_byMinutes_41 : decode cX2_byMinutes 41 = .ok (.invokevirtual 93, 3) := dk_182 0 93 (dk_at dksX2_byMinutes_1 17 rfl rfl)
theorem dX2_byMinutes_44 : decode cX2_byMinutes 44 = .ok (.ifCond .eq 68, 3) := dk_153 0 68 (dk_at dksX2_byMinutes_1 20 rfl rfl)
theorem dX2_byMinutes_47 : decode cX2_byMinutes 47 = .ok (.iconst 0, 1) := dk_3 (dk_at dksX2_byMinutes_1 23 rfl rfl)
theorem dX2_byMinutes_48 : decode cX2_byMinutes 48 = .ok (.istore 5, 2) := dk_54 5 (dk_at dksX2_byMinutes_2 0 rfl rfl)
theorem dX2_byMinutes_50 : decode cX2_byMinutes 50 = .ok (.aload_n 2, 1) := dk_44 (dk_at dksX2_byMinutes_2 2 rfl rfl)
theorem dX2_byMinutes_51 : decode cX2_byMinutes 51 = .ok (.invokevirtual 192, 3) := dk_182 0 192 (dk_at dksX2_byMinutes_2 3 rfl rfl)
theorem dX2_byMinutes_54 : decode cX2_byMinutes 54 = .ok (.astore 6, 2) := dk_58 6 (dk_at dksX2_byMinutes_2 6 rfl rfl)
theorem dX2_byMinutes_56 : decode cX2_byMinutes 56 = .ok (.aload 6, 2) := dk_25 6 (dk_at dksX2_byMinutes_2 8 rfl rfl)
theorem dX2_byMinutes_58 : decode cX2_byMinutes 58 = .ok (.invokeinterface 35 1, 5) := by decide +kernel
theorem dX2_byMinutes_63 : decode cX2_byMinutes 63 = .ok (.ifCond .eq 41, 3) := dk_153 0 41 (dk_at dksX2_byMinutes_2 15 rfl rfl)
theorem dX2_byMinutes_66 : decode cX2_byMinutes 66 = .ok (.aload 6, 2) := dk_25 6 (dk_at dksX2_byMinutes_2 18 rfl rfl)
theorem dX2_byMinutes_68 : decode cX2_byMinutes 68 = .ok (.invokeinterface 41 1, 5) := by decide +kernel
theorem dX2_byMinutes_73 : decode cX2_byMinutes 73 = .ok (.checkcast 45, 3) := dk_192 0 45 (dk_at dksX2_byMinutes_3 5 rfl rfl)
theorem dX2_byMinutes_76 : decode cX2_byMinutes 76 = .ok (.astore 7, 2) := dk_58 7 (dk_at dksX2_byMinutes_3 8 rfl rfl)
theorem dX2_byMinutes_78 : decode cX2_byMinutes 78 = .ok (.iload 5, 2) := dk_21 5 (dk_at dksX2_byMinutes_3 10 rfl rfl)
theorem dX2_byMinutes_80 : decode cX2_byMinutes 80 = .ok (.aload 7, 2) := dk_25 7 (dk_at dksX2_byMinutes_3 12 rfl rfl)
theorem dX2_byMinutes_82 : decode cX2_byMinutes 82 = .ok (.invokevirtual 103, 3) := dk_182 0 103 (dk_at dksX2_byMinutes_3 14 rfl rfl)
theorem dX2_byMinutes_85 : decode cX2_byMinutes 85 = .ok (.aload 4, 2) := dk_25 4 (dk_at dksX2_byMinutes_3 17 rfl rfl)
theorem dX2_byMinutes_87 : decode cX2_byMinutes 87 = .ok (.invokevirtual 103, 3) := dk_182 0 103 (dk_at dksX2_byMinutes_3 19 rfl rfl)
theorem dX2_byMinutes_90 : decode cX2_byMinutes 90 = .ok (.if_icmp .ge 7, 3) := dk_162 0 7 (dk_at dksX2_byMinutes_4 0 rfl rfl)
theorem dX2_byMinutes_93 : decode cX2_byMinutes 93 = .ok (.iconst 1, 1) := dk_4 (dk_at dksX2_byMinutes_4 3 rfl rfl)
theorem dX2_byMinutes_94 : decode cX2_byMinutes 94 = .ok (.goto 4, 3) := dk_167 0 4 (dk_at dksX2_byMinutes_4 4 rfl rfl)
theorem dX2_byMinutes_97 : decode cX2_byMinutes 97 = .ok (.iconst 0, 1) := dk_3 (dk_at dksX2_byMinutes_4 7 rfl rfl)
theorem dX2_byMinutes_98 : decode cX2_byMinutes 98 = .ok (.iadd, 1) := dk_96 (dk_at dksX2_byMinutes_4 8 rfl rfl)
theorem dX2_byMinutes_99 : decode cX2_byMinutes 99 = .ok (.istore 5, 2) := dk_54 5 (dk_at dksX2_byMinutes_4 9 rfl rfl)
theorem dX2_byMinutes_101 : decode cX2_byMinutes 101 = .ok (.goto (-45), 3) := dk_167 255 211 (dk_at dksX2_byMinutes_4 11 rfl rfl)
theorem dX2_byMinutes_104 : decode cX2_byMinutes 104 = .ok (.aload_n 2, 1) := dk_44 (dk_at dksX2_byMinutes_4 14 rfl rfl)
theorem dX2_byMinutes_105 : decode cX2_byMinutes 105 = .ok (.iload 5, 2) := dk_21 5 (dk_at dksX2_byMinutes_4 15 rfl rfl)
theorem dX2_byMinutes_107 : decode cX2_byMinutes 107 = .ok (.aload 4, 2) := dk_25 4 (dk_at dksX2_byMinutes_4 17 rfl rfl)
theorem dX2_byMinutes_109 : decode cX2_byMinutes 109 = .ok (.invokevirtual 197, 3) := dk_182 0 197 (dk_at dksX2_byMinutes_4 19 rfl rfl)
theorem dX2_byMinutes_112 : decode cX2_byMinutes 112 = .ok (.goto (-94), 3) := dk_167 255 162 (dk_at dksX2_byMinutes_5 0 rfl rfl)
theorem dX2_byMinutes_115 : decode cX2_byMinutes 115 = .ok (.aload_n 2, 1) := dk_44 (dk_at dksX2_byMinutes_5 3 rfl rfl)
theorem dX2_byMinutes_116 : decode cX2_byMinutes 116 = .ok (.areturn, 1) := dk_176 (dk_at dksX2_byMinutes_5 4 rfl rfl)
abbrev cX2_allotted : ByteArray := prog_12_method_8_code
def yX2_allotted : MethodName := ⟨RX2, "allotted", "()I"⟩
theorem dX2_allotted_0 : decode cX2_allotted 0 = .ok (.aload_n 0, 1) := by decide +kernel
theorem dX2_allotted_1 : decode cX2_allotted 1 = .ok (.getfield 55, 3) := by decide +kernel
theorem dX2_allotted_4 : decode cX2_allotted 4 = .ok (.ireturn, 1) := by decide +kernel
abbrev cX2_cancelled : ByteArray := prog_12_method_9_code
def yX2_cancelled : MethodName := ⟨RX2, "cancelled", "()I"⟩
theorem dX2_cancelled_0 : decode cX2_cancelled 0 = .ok (.aload_n 0, 1) := by decide +kernel
theorem dX2_cancelled_1 : decode cX2_cancelled 1 = .ok (.getfield 59, 3) := by decide +kernel
theorem dX2_cancelled_4 : decode cX2_cancelled 4 = .ok (.ireturn, 1) := by decide +kernel
abbrev cX2_joinings : ByteArray := prog_12_method_10_code
def yX2_joinings : MethodName := ⟨RX2, "joinings", "()I"⟩
theorem dX2_joinings_0 : decode cX2_joinings 0 = .ok (.aload_n 0, 1) := by decide +kernel
theorem dX2_joinings_1 : decode cX2_joinings 1 = .ok (.getfield 62, 3) := by decide +kernel
theorem dX2_joinings_4 : decode cX2_joinings 4 = .ok (.ireturn, 1) := by decide +kernel
theorem q102 : (Jvm.Cond.initialized "BoxSpans$Theatre") ∈ lw_all := lw_g (lw_at lw_m1 2 rfl) rfl
theorem q159 : (Jvm.Cond.instantiable "BoxSpans$Theatre" (6 : Nat)) ∈ lw_all := lw_g (lw_at lw_m1 59 rfl) rfl
theorem q161 : (Jvm.Cond.instanceMethod ({ cls := "BoxSpans$Theatre", name := "<init>", desc := "()V" } : Jvm.MethodName)) ∈ lw_all := lw_g (lw_at lw_m1 61 rfl) rfl
theorem q162 : (Jvm.Cond.code ({ cls := "BoxSpans$Theatre", name := "<init>", desc := "()V" } : Jvm.MethodName) prog_12_method_1_code (1 : Nat) (Option.none : Option Jvm.ClassFile.FieldType)) ∈ lw_all := lw_g (lw_at lw_m1 62 rfl) rfl
theorem q163 : (Jvm.Cond.methodLink "BoxSpans$Theatre" (3 : Nat) ({ cls := "java/lang/Object", name := "<init>", desc := "()V" } : Jvm.MethodName)) ∈ lw_all := lw_g (lw_at lw_m1 63 rfl) rfl
theorem q164 : (Jvm.Cond.classLink "BoxSpans$Theatre" (9 : Nat) "java/util/ArrayList") ∈ lw_all := lw_g (lw_at lw_m1 64 rfl) rfl
theorem q166 : (Jvm.Cond.methodLink "BoxSpans$Theatre" (11 : Nat) ({ cls := "java/util/ArrayList", name := "<init>", desc := "()V" } : Jvm.MethodName)) ∈ lw_all := lw_g (lw_at lw_m1 66 rfl) rfl
theorem q197 : (Jvm.Cond.fieldLink "BoxSpans$Theatre" (12 : Nat) "BoxSpans$Theatre" "seats" "Ljava/util/List;") ∈ lw_all := lw_g (lw_at lw_m1 97 rfl) rfl
theorem q198 : (Jvm.Cond.fieldLink "BoxSpans$Theatre" (18 : Nat) "BoxSpans$Theatre" "lettings" "Ljava/util/List;") ∈ lw_all := lw_g (lw_at lw_m1 98 rfl) rfl
theorem q199 : (Jvm.Cond.fieldLink "BoxSpans$Theatre" (21 : Nat) "BoxSpans$Theatre" "wishes" "Ljava/util/List;") ∈ lw_all := lw_g (lw_at lw_m1 99 rfl) rfl
theorem q200 : (Jvm.Cond.fieldLink "BoxSpans$Theatre" (55 : Nat) "BoxSpans$Theatre" "allotted" "I") ∈ lw_all := lw_g (lw_at lw_m1 100 rfl) rfl
theorem q201 : (Jvm.Cond.fieldLink "BoxSpans$Theatre" (59 : Nat) "BoxSpans$Theatre" "cancelled" "I") ∈ lw_all := lw_g (lw_at lw_m1 101 rfl) rfl
theorem q202 : (Jvm.Cond.fieldLink "BoxSpans$Theatre" (62 : Nat) "BoxSpans$Theatre" "joinings" "I") ∈ lw_all := lw_g (lw_at lw_m1 102 rfl) rfl
theorem q203 : (Jvm.Cond.laysFinal "BoxSpans$Theatre" "BoxSpans$Theatre" "seats" "Ljava/util/List;") ∈ lw_all := lw_g (lw_at lw_m1 103 rfl) rfl
theorem q204 : (Jvm.Cond.soleField "BoxSpans$Theatre" "seats") ∈ lw_all := lw_g (lw_at lw_m1 104 rfl) rfl
theorem q205 : (Jvm.Cond.laysFinal "BoxSpans$Theatre" "BoxSpans$Theatre" "lettings" "Ljava/util/List;") ∈ lw_all := lw_g (lw_at lw_m1 105 rfl) rfl
theorem q206 : (Jvm.Cond.soleField "BoxSpans$Theatre" "lettings") ∈ lw_all := lw_g (lw_at lw_m1 106 rfl) rfl
theorem q207 : (Jvm.Cond.laysFinal "BoxSpans$Theatre" "BoxSpans$Theatre" "wishes" "Ljava/util/List;") ∈ lw_all := lw_g (lw_at lw_m1 107 rfl) rfl
theorem q208 : (Jvm.Cond.soleField "BoxSpans$Theatre" "wishes") ∈ lw_all := lw_g (lw_at lw_m1 108 rfl) rfl
theorem q209 : (Jvm.Cond.lays "BoxSpans$Theatre" "BoxSpans$Theatre" "allotted" "I") ∈ lw_all := lw_g (lw_at lw_m1 109 rfl) rfl
theorem q210 : (Jvm.Cond.soleField "BoxSpans$Theatre" "allotted") ∈ lw_all := lw_g (lw_at lw_m1 110 rfl) rfl
theorem q211 : (Jvm.Cond.lays "BoxSpans$Theatre" "BoxSpans$Theatre" "cancelled" "I") ∈ lw_all := lw_g (lw_at lw_m1 111 rfl) rfl
theorem q212 : (Jvm.Cond.soleField "BoxSpans$Theatre" "cancelled") ∈ lw_all := lw_g (lw_at lw_m1 112 rfl) rfl
theorem q213 : (Jvm.Cond.lays "BoxSpans$Theatre" "BoxSpans$Theatre" "joinings" "I") ∈ lw_all := lw_g (lw_at lw_m1 113 rfl) rfl
theorem q214 : (Jvm.Cond.soleField "BoxSpans$Theatre" "joinings") ∈ lw_all := lw_g (lw_at lw_m1 114 rfl) rfl
theorem q215 : (Jvm.Cond.superclass "BoxSpans$Theatre" "java/lang/Object") ∈ lw_all := lw_g (lw_at lw_m1 115 rfl) rfl
theorem q298 : (Jvm.Cond.instanceMethod ({ cls := "BoxSpans$Theatre", name := "busiest", desc := "()I" } : Jvm.MethodName)) ∈ lw_all := lw_g (lw_at lw_m1 198 rfl) rfl
theorem q299 : (Jvm.Cond.selects "BoxSpans$Theatre" ({ cls := "BoxSpans$Theatre", name := "busiest", desc := "()I" } : Jvm.MethodName) ({ cls := "BoxSpans$Theatre", name := "busiest", desc := "()I" } : Jvm.MethodName)) ∈ lw_all := lw_g (lw_at lw_m1 199 rfl) rfl
theorem q300 : (Jvm.Cond.code ({ cls := "BoxSpans$Theatre", name := "busiest", desc := "()I" } : Jvm.MethodName) prog_12_method_29_code (3 : Nat) (Option.some Jvm.ClassFile.FieldType.int)) ∈ lw_all := lw_g (lw_at lw_m1 200 rfl) rfl
theorem q301 : (Jvm.Cond.methodLink "BoxSpans$Theatre" (223 : Nat) ({ cls := "BoxSpans$Theatre", name := "over", desc := "(I)I" } : Jvm.MethodName)) ∈ lw_all := lw_g (lw_at lw_m1 201 rfl) rfl
theorem q302 : (Jvm.Cond.instanceMethod ({ cls := "BoxSpans$Theatre", name := "over", desc := "(I)I" } : Jvm.MethodName)) ∈ lw_all := lw_g (lw_at lw_m1 202 rfl) rfl
theorem q303 : (Jvm.Cond.selects "BoxSpans$Theatre" ({ cls := "BoxSpans$Theatre", name := "over", desc := "(I)I" } : Jvm.MethodName) ({ cls := "BoxSpans$Theatre", name := "over", desc := "(I)I" } : Jvm.MethodName)) ∈ lw_all := lw_g (lw_at lw_m1 203 rfl) rfl
theorem q304 : (Jvm.Cond.code ({ cls := "BoxSpans$Theatre", name := "over", desc := "(I)I" } : Jvm.MethodName) prog_12_method_27_code (5 : Nat) (Option.some Jvm.ClassFile.FieldType.int)) ∈ lw_all := lw_g (lw_at lw_m1 204 rfl) rfl
theorem q305 : (Jvm.Cond.interfaceEntry "BoxSpans$Theatre" (31 : Nat)) ∈ lw_tbl := lw_at lw_m1 205 rfl
theorem q306 : (Jvm.Cond.methodLink "BoxSpans$Theatre" (31 : Nat) ({ cls := "java/util/List", name := "iterator", desc := "()Ljava/util/Iterator;" } : Jvm.MethodName)) ∈ lw_all := lw_g (lw_at lw_m1 206 rfl) rfl
theorem q732 : (Jvm.Cond.interfaceEntry "BoxSpans$Theatre" (35 : Nat)) ∈ lw_tbl := lw_at lw_m3 152 rfl
theorem q733 : (Jvm.Cond.methodLink "BoxSpans$Theatre" (35 : Nat) ({ cls := "java/util/Iterator", name := "hasNext", desc := "()Z" } : Jvm.MethodName)) ∈ lw_all := lw_g (lw_at lw_m3 153 rfl) rfl
theorem q772 : (Jvm.Cond.interfaceEntry "BoxSpans$Theatre" (41 : Nat)) ∈ lw_tbl := lw_at lw_m3 192 rfl
theorem q773 : (Jvm.Cond.methodLink "BoxSpans$Theatre" (41 : Nat) ({ cls := "java/util/Iterator", name := "next", desc := "()Ljava/lang/Object;" } : Jvm.MethodName)) ∈ lw_all := lw_g (lw_at lw_m3 193 rfl) rfl
theorem q910 : (Jvm.Cond.selects "BoxSpans$Theatre" ({ cls := "java/lang/Object", name := "getClass", desc := "()Ljava/lang/Class;" } : Jvm.MethodName) ({ cls := "java/lang/Object", name := "getClass", desc := "()Ljava/lang/Class;" } : Jvm.MethodName)) ∈ lw_all := lw_g (lw_at lw_m4 90 rfl) rfl
theorem q993 : (Jvm.Cond.classLink "BoxSpans$Theatre" (181 : Nat) "BoxSpans$Wish") ∈ lw_all := lw_g (lw_at lw_m4 173 rfl) rfl
theorem q1050 : (Jvm.Cond.instanceMethod ({ cls := "BoxSpans$Theatre", name := "needsAgain", desc := "()I" } : Jvm.MethodName)) ∈ lw_all := lw_g (lw_at lw_m4 230 rfl) rfl
theorem q1051 : (Jvm.Cond.selects "BoxSpans$Theatre" ({ cls := "BoxSpans$Theatre", name := "needsAgain", desc := "()I" } : Jvm.MethodName) ({ cls := "BoxSpans$Theatre", name := "needsAgain", desc := "()I" } : Jvm.MethodName)) ∈ lw_all := lw_g (lw_at lw_m4 231 rfl) rfl
theorem q1052 : (Jvm.Cond.code ({ cls := "BoxSpans$Theatre", name := "needsAgain", desc := "()I" } : Jvm.MethodName) prog_12_method_30_code (7 : Nat) (Option.some Jvm.ClassFile.FieldType.int)) ∈ lw_all := lw_g (lw_at lw_m4 232 rfl) rfl
theorem q1053 : (Jvm.Cond.interfaceEntry "BoxSpans$Theatre" (65 : Nat)) ∈ lw_tbl := lw_at lw_m4 233 rfl
theorem q1054 : (Jvm.Cond.methodLink "BoxSpans$Theatre" (65 : Nat) ({ cls := "java/util/List", name := "size", desc := "()I" } : Jvm.MethodName)) ∈ lw_all := lw_g (lw_at lw_m4 234 rfl) rfl
theorem q1063 : (Jvm.Cond.interfaceEntry "BoxSpans$Theatre" (69 : Nat)) ∈ lw_tbl := lw_at lw_m5 3 rfl
theorem q1064 : (Jvm.Cond.methodLink "BoxSpans$Theatre" (69 : Nat) ({ cls := "java/util/List", name := "get", desc := "(I)Ljava/lang/Object;" } : Jvm.MethodName)) ∈ lw_all := lw_g (lw_at lw_m5 4 rfl) rfl
theorem q1073 : (Jvm.Cond.methodLink "BoxSpans$Theatre" (221 : Nat) ({ cls := "BoxSpans$Wish", name := "from", desc := "()I" } : Jvm.MethodName)) ∈ lw_all := lw_g (lw_at lw_m5 13 rfl) rfl
theorem q1074 : (Jvm.Cond.methodLink "BoxSpans$Theatre" (222 : Nat) ({ cls := "BoxSpans$Wish", name := "to", desc := "()I" } : Jvm.MethodName)) ∈ lw_all := lw_g (lw_at lw_m5 14 rfl) rfl
theorem q1075 : (Jvm.Cond.methodLink "BoxSpans$Theatre" (226 : Nat) ({ cls := "java/lang/Math", name := "max", desc := "(II)I" } : Jvm.MethodName)) ∈ lw_all := lw_g (lw_at lw_m5 15 rfl) rfl
theorem q1083 : (Jvm.Cond.instanceMethod ({ cls := "BoxSpans$Theatre", name := "isOnce", desc := "()Z" } : Jvm.MethodName)) ∈ lw_all := lw_g (lw_at lw_m5 23 rfl) rfl
theorem q1084 : (Jvm.Cond.selects "BoxSpans$Theatre" ({ cls := "BoxSpans$Theatre", name := "isOnce", desc := "()Z" } : Jvm.MethodName) ({ cls := "BoxSpans$Theatre", name := "isOnce", desc := "()Z" } : Jvm.MethodName)) ∈ lw_all := lw_g (lw_at lw_m5 24 rfl) rfl
theorem q1085 : (Jvm.Cond.code ({ cls := "BoxSpans$Theatre", name := "isOnce", desc := "()Z" } : Jvm.MethodName) prog_12_method_40_code (6 : Nat) (Option.some Jvm.ClassFile.FieldType.boolean)) ∈ lw_all := lw_g (lw_at lw_m5 25 rfl) rfl
theorem q1086 : (Jvm.Cond.methodLink "BoxSpans$Theatre" (78 : Nat) ({ cls := "BoxSpans$Theatre", name := "boxes", desc := "()I" } : Jvm.MethodName)) ∈ lw_all := lw_g (lw_at lw_m5 26 rfl) rfl
theorem q1087 : (Jvm.Cond.instanceMethod ({ cls := "BoxSpans$Theatre", name := "boxes", desc := "()I" } : Jvm.MethodName)) ∈ lw_all := lw_g (lw_at lw_m5 27 rfl) rfl
theorem q1088 : (Jvm.Cond.selects "BoxSpans$Theatre" ({ cls := "BoxSpans$Theatre", name := "boxes", desc := "()I" } : Jvm.MethodName) ({ cls := "BoxSpans$Theatre", name := "boxes", desc := "()I" } : Jvm.MethodName)) ∈ lw_all := lw_g (lw_at lw_m5 28 rfl) rfl
theorem q1089 : (Jvm.Cond.code ({ cls := "BoxSpans$Theatre", name := "boxes", desc := "()I" } : Jvm.MethodName) prog_12_method_3_code (1 : Nat) (Option.some Jvm.ClassFile.FieldType.int)) ∈ lw_all := lw_g (lw_at lw_m5 29 rfl) rfl
theorem q1090 : (Jvm.Cond.methodLink "BoxSpans$Theatre" (89 : Nat) ({ cls := "BoxSpans$Theatre", name := "letting", desc := "(I)LBoxSpans$Letting;" } : Jvm.MethodName)) ∈ lw_all := lw_g (lw_at lw_m5 30 rfl) rfl
theorem q1091 : (Jvm.Cond.instanceMethod ({ cls := "BoxSpans$Theatre", name := "letting", desc := "(I)LBoxSpans$Letting;" } : Jvm.MethodName)) ∈ lw_all := lw_g (lw_at lw_m5 31 rfl) rfl
theorem q1092 : (Jvm.Cond.selects "BoxSpans$Theatre" ({ cls := "BoxSpans$Theatre", name := "letting", desc := "(I)LBoxSpans$Letting;" } : Jvm.MethodName) ({ cls := "BoxSpans$Theatre", name := "letting", desc := "(I)LBoxSpans$Letting;" } : Jvm.MethodName)) ∈ lw_all := lw_g (lw_at lw_m5 32 rfl) rfl
theorem q1093 : (Jvm.Cond.code ({ cls := "BoxSpans$Theatre", name := "letting", desc := "(I)LBoxSpans$Letting;" } : Jvm.MethodName) prog_12_method_6_code (2 : Nat) (Option.some (Jvm.ClassFile.FieldType.object "BoxSpans$Letting"))) ∈ lw_all := lw_g (lw_at lw_m5 33 rfl) rfl
theorem q1094 : (Jvm.Cond.classLink "BoxSpans$Theatre" (45 : Nat) "BoxSpans$Letting") ∈ lw_all := lw_g (lw_at lw_m5 34 rfl) rfl
theorem q1095 : (Jvm.Cond.methodLink "BoxSpans$Theatre" (93 : Nat) ({ cls := "BoxSpans$Letting", name := "isIn", desc := "(I)Z" } : Jvm.MethodName)) ∈ lw_all := lw_g (lw_at lw_m5 35 rfl) rfl
theorem q1101 : (Jvm.Cond.methodLink "BoxSpans$Theatre" (253 : Nat) ({ cls := "BoxSpans$Theatre", name := "ofAll", desc := "(I)I" } : Jvm.MethodName)) ∈ lw_all := lw_g (lw_at lw_m5 41 rfl) rfl
theorem q1102 : (Jvm.Cond.instanceMethod ({ cls := "BoxSpans$Theatre", name := "ofAll", desc := "(I)I" } : Jvm.MethodName)) ∈ lw_all := lw_g (lw_at lw_m5 42 rfl) rfl
theorem q1103 : (Jvm.Cond.selects "BoxSpans$Theatre" ({ cls := "BoxSpans$Theatre", name := "ofAll", desc := "(I)I" } : Jvm.MethodName) ({ cls := "BoxSpans$Theatre", name := "ofAll", desc := "(I)I" } : Jvm.MethodName)) ∈ lw_all := lw_g (lw_at lw_m5 43 rfl) rfl
theorem q1104 : (Jvm.Cond.code ({ cls := "BoxSpans$Theatre", name := "ofAll", desc := "(I)I" } : Jvm.MethodName) prog_12_method_36_code (4 : Nat) (Option.some Jvm.ClassFile.FieldType.int)) ∈ lw_all := lw_g (lw_at lw_m5 44 rfl) rfl
theorem q1105 : (Jvm.Cond.methodLink "BoxSpans$Theatre" (246 : Nat) ({ cls := "BoxSpans$Theatre", name := "ofBox", desc := "(II)I" } : Jvm.MethodName)) ∈ lw_all := lw_g (lw_at lw_m5 45 rfl) rfl
theorem q1106 : (Jvm.Cond.instanceMethod ({ cls := "BoxSpans$Theatre", name := "ofBox", desc := "(II)I" } : Jvm.MethodName)) ∈ lw_all := lw_g (lw_at lw_m5 46 rfl) rfl
theorem q1107 : (Jvm.Cond.selects "BoxSpans$Theatre" ({ cls := "BoxSpans$Theatre", name := "ofBox", desc := "(II)I" } : Jvm.MethodName) ({ cls := "BoxSpans$Theatre", name := "ofBox", desc := "(II)I" } : Jvm.MethodName)) ∈ lw_all := lw_g (lw_at lw_m5 47 rfl) rfl
theorem q1108 : (Jvm.Cond.code ({ cls := "BoxSpans$Theatre", name := "ofBox", desc := "(II)I" } : Jvm.MethodName) prog_12_method_35_code (7 : Nat) (Option.some Jvm.ClassFile.FieldType.int)) ∈ lw_all := lw_g (lw_at lw_m5 48 rfl) rfl
theorem q1114 : (Jvm.Cond.methodLink "BoxSpans$Theatre" (131 : Nat) ({ cls := "BoxSpans$Letting", name := "coins", desc := "()I" } : Jvm.MethodName)) ∈ lw_all := lw_g (lw_at lw_m5 54 rfl) rfl
theorem q1146 : (Jvm.Cond.instanceMethod ({ cls := "BoxSpans$Theatre", name := "opens", desc := "(I)I" } : Jvm.MethodName)) ∈ lw_all := lw_g (lw_at lw_m5 86 rfl) rfl
theorem q1147 : (Jvm.Cond.selects "BoxSpans$Theatre" ({ cls := "BoxSpans$Theatre", name := "opens", desc := "(I)I" } : Jvm.MethodName) ({ cls := "BoxSpans$Theatre", name := "opens", desc := "(I)I" } : Jvm.MethodName)) ∈ lw_all := lw_g (lw_at lw_m5 87 rfl) rfl
theorem q1148 : (Jvm.Cond.code ({ cls := "BoxSpans$Theatre", name := "opens", desc := "(I)I" } : Jvm.MethodName) prog_12_method_11_code (2 : Nat) (Option.some Jvm.ClassFile.FieldType.int)) ∈ lw_all := lw_g (lw_at lw_m5 88 rfl) rfl
theorem q1149 : (Jvm.Cond.methodLinkNest "BoxSpans$Theatre" (81 : Nat) ({ cls := "BoxSpans", name := "meet", desc := "(ZII)V" } : Jvm.MethodName) "BoxSpans") ∈ lw_tbl := lw_at lw_m5 89 rfl
theorem q1178 : (Jvm.Cond.methodLink "BoxSpans$Theatre" (85 : Nat) ({ cls := "java/lang/Integer", name := "valueOf", desc := "(I)Ljava/lang/Integer;" } : Jvm.MethodName)) ∈ lw_all := lw_g (lw_at lw_m5 118 rfl) rfl
theorem q1198 : (Jvm.Cond.interfaceEntry "BoxSpans$Theatre" (51 : Nat)) ∈ lw_tbl := lw_at lw_m5 138 rfl
theorem q1199 : (Jvm.Cond.methodLink "BoxSpans$Theatre" (51 : Nat) ({ cls := "java/util/List", name := "add", desc := "(Ljava/lang/Object;)Z" } : Jvm.MethodName)) ∈ lw_all := lw_g (lw_at lw_m5 139 rfl) rfl
theorem q1267 : (Jvm.Cond.instanceMethod ({ cls := "BoxSpans$Theatre", name := "copy", desc := "()LBoxSpans$Theatre;" } : Jvm.MethodName)) ∈ lw_all := lw_g (lw_at lw_m5 207 rfl) rfl
theorem q1268 : (Jvm.Cond.selects "BoxSpans$Theatre" ({ cls := "BoxSpans$Theatre", name := "copy", desc := "()LBoxSpans$Theatre;" } : Jvm.MethodName) ({ cls := "BoxSpans$Theatre", name := "copy", desc := "()LBoxSpans$Theatre;" } : Jvm.MethodName)) ∈ lw_all := lw_g (lw_at lw_m5 208 rfl) rfl
theorem q1269 : (Jvm.Cond.code ({ cls := "BoxSpans$Theatre", name := "copy", desc := "()LBoxSpans$Theatre;" } : Jvm.MethodName) prog_12_method_2_code (4 : Nat) (Option.some (Jvm.ClassFile.FieldType.object "BoxSpans$Theatre"))) ∈ lw_all := lw_g (lw_at lw_m5 209 rfl) rfl
theorem q1270 : (Jvm.Cond.classLink "BoxSpans$Theatre" (13 : Nat) "BoxSpans$Theatre") ∈ lw_all := lw_g (lw_at lw_m5 210 rfl) rfl
theorem q1271 : (Jvm.Cond.methodLink "BoxSpans$Theatre" (24 : Nat) ({ cls := "BoxSpans$Theatre", name := "<init>", desc := "()V" } : Jvm.MethodName)) ∈ lw_all := lw_g (lw_at lw_m5 211 rfl) rfl
theorem q1272 : (Jvm.Cond.interfaceEntry "BoxSpans$Theatre" (25 : Nat)) ∈ lw_tbl := lw_at lw_m5 212 rfl
theorem q1273 : (Jvm.Cond.methodLink "BoxSpans$Theatre" (25 : Nat) ({ cls := "java/util/List", name := "addAll", desc := "(Ljava/util/Collection;)Z" } : Jvm.MethodName)) ∈ lw_all := lw_g (lw_at lw_m5 213 rfl) rfl
theorem q1310 : (Jvm.Cond.methodLink "BoxSpans$Theatre" (47 : Nat) ({ cls := "BoxSpans$Letting", name := "copy", desc := "()LBoxSpans$Letting;" } : Jvm.MethodName)) ∈ lw_all := lw_g (lw_at lw_m6 10 rfl) rfl
theorem q1417 : (Jvm.Cond.instanceMethod ({ cls := "BoxSpans$Theatre", name := "lets", desc := "(IILBoxSpans$Span;)I" } : Jvm.MethodName)) ∈ lw_all := lw_g (lw_at lw_m6 117 rfl) rfl
theorem q1418 : (Jvm.Cond.selects "BoxSpans$Theatre" ({ cls := "BoxSpans$Theatre", name := "lets", desc := "(IILBoxSpans$Span;)I" } : Jvm.MethodName) ({ cls := "BoxSpans$Theatre", name := "lets", desc := "(IILBoxSpans$Span;)I" } : Jvm.MethodName)) ∈ lw_all := lw_g (lw_at lw_m6 118 rfl) rfl
theorem q1419 : (Jvm.Cond.code ({ cls := "BoxSpans$Theatre", name := "lets", desc := "(IILBoxSpans$Span;)I" } : Jvm.MethodName) prog_12_method_15_code (4 : Nat) (Option.some Jvm.ClassFile.FieldType.int)) ∈ lw_all := lw_g (lw_at lw_m6 119 rfl) rfl
theorem q1420 : (Jvm.Cond.methodLink "BoxSpans$Theatre" (110 : Nat) ({ cls := "BoxSpans$Theatre", name := "seats", desc := "(I)I" } : Jvm.MethodName)) ∈ lw_all := lw_g (lw_at lw_m6 120 rfl) rfl
theorem q1421 : (Jvm.Cond.instanceMethod ({ cls := "BoxSpans$Theatre", name := "seats", desc := "(I)I" } : Jvm.MethodName)) ∈ lw_all := lw_g (lw_at lw_m6 121 rfl) rfl
theorem q1422 : (Jvm.Cond.selects "BoxSpans$Theatre" ({ cls := "BoxSpans$Theatre", name := "seats", desc := "(I)I" } : Jvm.MethodName) ({ cls := "BoxSpans$Theatre", name := "seats", desc := "(I)I" } : Jvm.MethodName)) ∈ lw_all := lw_g (lw_at lw_m6 122 rfl) rfl
theorem q1423 : (Jvm.Cond.code ({ cls := "BoxSpans$Theatre", name := "seats", desc := "(I)I" } : Jvm.MethodName) prog_12_method_4_code (2 : Nat) (Option.some Jvm.ClassFile.FieldType.int)) ∈ lw_all := lw_g (lw_at lw_m6 123 rfl) rfl
theorem q1424 : (Jvm.Cond.classLink "BoxSpans$Theatre" (73 : Nat) "java/lang/Integer") ∈ lw_all := lw_g (lw_at lw_m6 124 rfl) rfl
theorem q1425 : (Jvm.Cond.methodLink "BoxSpans$Theatre" (75 : Nat) ({ cls := "java/lang/Integer", name := "intValue", desc := "()I" } : Jvm.MethodName)) ∈ lw_all := lw_g (lw_at lw_m6 125 rfl) rfl
theorem q1429 : (Jvm.Cond.methodLink "BoxSpans$Theatre" (113 : Nat) ({ cls := "BoxSpans$Theatre", name := "checkFree", desc := "(ILBoxSpans$Timed;I)V" } : Jvm.MethodName)) ∈ lw_all := lw_g (lw_at lw_m6 129 rfl) rfl
theorem q1430 : (Jvm.Cond.privateMethod ({ cls := "BoxSpans$Theatre", name := "checkFree", desc := "(ILBoxSpans$Timed;I)V" } : Jvm.MethodName)) ∈ lw_tbl := lw_at lw_m6 130 rfl
theorem q1431 : (Jvm.Cond.instanceMethod ({ cls := "BoxSpans$Theatre", name := "checkFree", desc := "(ILBoxSpans$Timed;I)V" } : Jvm.MethodName)) ∈ lw_all := lw_g (lw_at lw_m6 131 rfl) rfl
theorem q1432 : (Jvm.Cond.code ({ cls := "BoxSpans$Theatre", name := "checkFree", desc := "(ILBoxSpans$Timed;I)V" } : Jvm.MethodName) prog_12_method_13_code (5 : Nat) (Option.none : Option Jvm.ClassFile.FieldType)) ∈ lw_all := lw_g (lw_at lw_m6 132 rfl) rfl
theorem q1433 : (Jvm.Cond.methodLink "BoxSpans$Theatre" (106 : Nat) ({ cls := "BoxSpans$Theatre", name := "overlapping", desc := "(ILBoxSpans$Timed;I)I" } : Jvm.MethodName)) ∈ lw_all := lw_g (lw_at lw_m6 133 rfl) rfl
theorem q1434 : (Jvm.Cond.privateMethod ({ cls := "BoxSpans$Theatre", name := "overlapping", desc := "(ILBoxSpans$Timed;I)I" } : Jvm.MethodName)) ∈ lw_tbl := lw_at lw_m6 134 rfl
theorem q1435 : (Jvm.Cond.instanceMethod ({ cls := "BoxSpans$Theatre", name := "overlapping", desc := "(ILBoxSpans$Timed;I)I" } : Jvm.MethodName)) ∈ lw_all := lw_g (lw_at lw_m6 135 rfl) rfl
theorem q1436 : (Jvm.Cond.code ({ cls := "BoxSpans$Theatre", name := "overlapping", desc := "(ILBoxSpans$Timed;I)I" } : Jvm.MethodName) prog_12_method_12_code (7 : Nat) (Option.some Jvm.ClassFile.FieldType.int)) ∈ lw_all := lw_g (lw_at lw_m6 136 rfl) rfl
theorem q1437 : (Jvm.Cond.methodLink "BoxSpans$Theatre" (97 : Nat) ({ cls := "BoxSpans$Timed", name := "areTogether", desc := "(LBoxSpans$Timed;LBoxSpans$Timed;)Z" } : Jvm.MethodName)) ∈ lw_all := lw_g (lw_at lw_m6 137 rfl) rfl
theorem q1440 : (Jvm.Cond.methodLink "BoxSpans$Theatre" (103 : Nat) ({ cls := "BoxSpans$Letting", name := "from", desc := "()I" } : Jvm.MethodName)) ∈ lw_all := lw_g (lw_at lw_m6 140 rfl) rfl
theorem q1441 : (Jvm.Cond.methodLink "BoxSpans$Theatre" (117 : Nat) ({ cls := "BoxSpans$Letting", name := "<init>", desc := "(IILBoxSpans$Span;)V" } : Jvm.MethodName)) ∈ lw_all := lw_g (lw_at lw_m6 141 rfl) rfl
theorem q1442 : (Jvm.Cond.methodLink "BoxSpans$Theatre" (120 : Nat) ({ cls := "BoxSpans$Theatre", name := "makes", desc := "(LBoxSpans$Letting;)I" } : Jvm.MethodName)) ∈ lw_all := lw_g (lw_at lw_m6 142 rfl) rfl
theorem q1443 : (Jvm.Cond.privateMethod ({ cls := "BoxSpans$Theatre", name := "makes", desc := "(LBoxSpans$Letting;)I" } : Jvm.MethodName)) ∈ lw_tbl := lw_at lw_m6 143 rfl
theorem q1444 : (Jvm.Cond.instanceMethod ({ cls := "BoxSpans$Theatre", name := "makes", desc := "(LBoxSpans$Letting;)I" } : Jvm.MethodName)) ∈ lw_all := lw_g (lw_at lw_m6 144 rfl) rfl
theorem q1445 : (Jvm.Cond.code ({ cls := "BoxSpans$Theatre", name := "makes", desc := "(LBoxSpans$Letting;)I" } : Jvm.MethodName) prog_12_method_14_code (2 : Nat) (Option.some Jvm.ClassFile.FieldType.int)) ∈ lw_all := lw_g (lw_at lw_m6 145 rfl) rfl
theorem q1458 : (Jvm.Cond.instanceMethod ({ cls := "BoxSpans$Theatre", name := "lettings", desc := "()Ljava/util/List;" } : Jvm.MethodName)) ∈ lw_all := lw_g (lw_at lw_m6 158 rfl) rfl
theorem q1459 : (Jvm.Cond.selects "BoxSpans$Theatre" ({ cls := "BoxSpans$Theatre", name := "lettings", desc := "()Ljava/util/List;" } : Jvm.MethodName) ({ cls := "BoxSpans$Theatre", name := "lettings", desc := "()Ljava/util/List;" } : Jvm.MethodName)) ∈ lw_all := lw_g (lw_at lw_m6 159 rfl) rfl
theorem q1460 : (Jvm.Cond.code ({ cls := "BoxSpans$Theatre", name := "lettings", desc := "()Ljava/util/List;" } : Jvm.MethodName) prog_12_method_5_code (1 : Nat) (Option.some (Jvm.ClassFile.FieldType.object "java/util/List"))) ∈ lw_all := lw_g (lw_at lw_m6 160 rfl) rfl
theorem q1467 : (Jvm.Cond.instanceMethod ({ cls := "BoxSpans$Theatre", name := "cancels", desc := "(I)I" } : Jvm.MethodName)) ∈ lw_all := lw_g (lw_at lw_m6 167 rfl) rfl
theorem q1468 : (Jvm.Cond.selects "BoxSpans$Theatre" ({ cls := "BoxSpans$Theatre", name := "cancels", desc := "(I)I" } : Jvm.MethodName) ({ cls := "BoxSpans$Theatre", name := "cancels", desc := "(I)I" } : Jvm.MethodName)) ∈ lw_all := lw_g (lw_at lw_m6 168 rfl) rfl
theorem q1469 : (Jvm.Cond.code ({ cls := "BoxSpans$Theatre", name := "cancels", desc := "(I)I" } : Jvm.MethodName) prog_12_method_17_code (3 : Nat) (Option.some Jvm.ClassFile.FieldType.int)) ∈ lw_all := lw_g (lw_at lw_m6 169 rfl) rfl
theorem q1470 : (Jvm.Cond.methodLink "BoxSpans$Theatre" (127 : Nat) ({ cls := "BoxSpans$Theatre", name := "checkLetting", desc := "(I)V" } : Jvm.MethodName)) ∈ lw_all := lw_g (lw_at lw_m6 170 rfl) rfl
theorem q1471 : (Jvm.Cond.privateMethod ({ cls := "BoxSpans$Theatre", name := "checkLetting", desc := "(I)V" } : Jvm.MethodName)) ∈ lw_tbl := lw_at lw_m6 171 rfl
theorem q1472 : (Jvm.Cond.instanceMethod ({ cls := "BoxSpans$Theatre", name := "checkLetting", desc := "(I)V" } : Jvm.MethodName)) ∈ lw_all := lw_g (lw_at lw_m6 172 rfl) rfl
theorem q1473 : (Jvm.Cond.code ({ cls := "BoxSpans$Theatre", name := "checkLetting", desc := "(I)V" } : Jvm.MethodName) prog_12_method_16_code (2 : Nat) (Option.none : Option Jvm.ClassFile.FieldType)) ∈ lw_all := lw_g (lw_at lw_m6 173 rfl) rfl
theorem q1474 : (Jvm.Cond.methodLink "BoxSpans$Theatre" (124 : Nat) ({ cls := "BoxSpans$Letting", name := "isOver", desc := "()Z" } : Jvm.MethodName)) ∈ lw_all := lw_g (lw_at lw_m6 174 rfl) rfl
theorem q1478 : (Jvm.Cond.methodLink "BoxSpans$Theatre" (134 : Nat) ({ cls := "BoxSpans$Letting", name := "ends", desc := "()V" } : Jvm.MethodName)) ∈ lw_all := lw_g (lw_at lw_m6 178 rfl) rfl
theorem q1492 : (Jvm.Cond.instanceMethod ({ cls := "BoxSpans$Theatre", name := "moves", desc := "(II)I" } : Jvm.MethodName)) ∈ lw_all := lw_g (lw_at lw_m6 192 rfl) rfl
theorem q1493 : (Jvm.Cond.selects "BoxSpans$Theatre" ({ cls := "BoxSpans$Theatre", name := "moves", desc := "(II)I" } : Jvm.MethodName) ({ cls := "BoxSpans$Theatre", name := "moves", desc := "(II)I" } : Jvm.MethodName)) ∈ lw_all := lw_g (lw_at lw_m6 193 rfl) rfl
theorem q1494 : (Jvm.Cond.code ({ cls := "BoxSpans$Theatre", name := "moves", desc := "(II)I" } : Jvm.MethodName) prog_12_method_18_code (5 : Nat) (Option.some Jvm.ClassFile.FieldType.int)) ∈ lw_all := lw_g (lw_at lw_m6 194 rfl) rfl
theorem q1495 : (Jvm.Cond.methodLink "BoxSpans$Theatre" (137 : Nat) ({ cls := "BoxSpans$Letting", name := "span", desc := "()LBoxSpans$Span;" } : Jvm.MethodName)) ∈ lw_all := lw_g (lw_at lw_m6 195 rfl) rfl
theorem q1499 : (Jvm.Cond.methodLink "BoxSpans$Theatre" (141 : Nat) ({ cls := "BoxSpans$Span", name := "later", desc := "(I)LBoxSpans$Span;" } : Jvm.MethodName)) ∈ lw_all := lw_g (lw_at lw_m6 199 rfl) rfl
theorem q1505 : (Jvm.Cond.methodLink "BoxSpans$Theatre" (147 : Nat) ({ cls := "BoxSpans$Span", name := "outside", desc := "()I" } : Jvm.MethodName)) ∈ lw_all := lw_g (lw_at lw_m6 205 rfl) rfl
theorem q1512 : (Jvm.Cond.methodLink "BoxSpans$Theatre" (150 : Nat) ({ cls := "BoxSpans$Letting", name := "box", desc := "()I" } : Jvm.MethodName)) ∈ lw_all := lw_g (lw_at lw_m6 212 rfl) rfl
theorem q1516 : (Jvm.Cond.methodLink "BoxSpans$Theatre" (153 : Nat) ({ cls := "BoxSpans$Letting", name := "becomes", desc := "(LBoxSpans$Span;)V" } : Jvm.MethodName)) ∈ lw_all := lw_g (lw_at lw_m6 216 rfl) rfl
theorem q1520 : (Jvm.Cond.methodLink "BoxSpans$Theatre" (157 : Nat) ({ cls := "BoxSpans$Span", name := "from", desc := "()I" } : Jvm.MethodName)) ∈ lw_all := lw_g (lw_at lw_m6 220 rfl) rfl
theorem q1531 : (Jvm.Cond.instanceMethod ({ cls := "BoxSpans$Theatre", name := "splits", desc := "(II)I" } : Jvm.MethodName)) ∈ lw_all := lw_g (lw_at lw_m6 231 rfl) rfl
theorem q1532 : (Jvm.Cond.selects "BoxSpans$Theatre" ({ cls := "BoxSpans$Theatre", name := "splits", desc := "(II)I" } : Jvm.MethodName) ({ cls := "BoxSpans$Theatre", name := "splits", desc := "(II)I" } : Jvm.MethodName)) ∈ lw_all := lw_g (lw_at lw_m6 232 rfl) rfl
theorem q1533 : (Jvm.Cond.code ({ cls := "BoxSpans$Theatre", name := "splits", desc := "(II)I" } : Jvm.MethodName) prog_12_method_19_code (5 : Nat) (Option.some Jvm.ClassFile.FieldType.int)) ∈ lw_all := lw_g (lw_at lw_m6 233 rfl) rfl
theorem q1534 : (Jvm.Cond.methodLink "BoxSpans$Theatre" (164 : Nat) ({ cls := "BoxSpans$Letting", name := "party", desc := "()I" } : Jvm.MethodName)) ∈ lw_all := lw_g (lw_at lw_m6 234 rfl) rfl
theorem q1538 : (Jvm.Cond.classLink "BoxSpans$Theatre" (142 : Nat) "BoxSpans$Span") ∈ lw_all := lw_g (lw_at lw_m6 238 rfl) rfl
theorem q1539 : (Jvm.Cond.methodLink "BoxSpans$Theatre" (167 : Nat) ({ cls := "BoxSpans$Letting", name := "to", desc := "()I" } : Jvm.MethodName)) ∈ lw_all := lw_g (lw_at lw_m6 239 rfl) rfl
theorem q1540 : (Jvm.Cond.methodLink "BoxSpans$Theatre" (170 : Nat) ({ cls := "BoxSpans$Span", name := "<init>", desc := "(II)V" } : Jvm.MethodName)) ∈ lw_all := lw_g (lw_at lw_m7 0 rfl) rfl
theorem q1551 : (Jvm.Cond.instanceMethod ({ cls := "BoxSpans$Theatre", name := "joins", desc := "(II)I" } : Jvm.MethodName)) ∈ lw_all := lw_g (lw_at lw_m7 11 rfl) rfl
theorem q1552 : (Jvm.Cond.selects "BoxSpans$Theatre" ({ cls := "BoxSpans$Theatre", name := "joins", desc := "(II)I" } : Jvm.MethodName) ({ cls := "BoxSpans$Theatre", name := "joins", desc := "(II)I" } : Jvm.MethodName)) ∈ lw_all := lw_g (lw_at lw_m7 12 rfl) rfl
theorem q1553 : (Jvm.Cond.code ({ cls := "BoxSpans$Theatre", name := "joins", desc := "(II)I" } : Jvm.MethodName) prog_12_method_20_code (5 : Nat) (Option.some Jvm.ClassFile.FieldType.int)) ∈ lw_all := lw_g (lw_at lw_m7 13 rfl) rfl
theorem q1554 : (Jvm.Cond.methodLink "BoxSpans$Theatre" (173 : Nat) ({ cls := "BoxSpans$Timed", name := "between", desc := "(LBoxSpans$Timed;LBoxSpans$Timed;)I" } : Jvm.MethodName)) ∈ lw_all := lw_g (lw_at lw_m7 14 rfl) rfl
theorem q1559 : (Jvm.Cond.methodLink "BoxSpans$Theatre" (177 : Nat) ({ cls := "BoxSpans$Span", name := "with", desc := "(LBoxSpans$Timed;)LBoxSpans$Span;" } : Jvm.MethodName)) ∈ lw_all := lw_g (lw_at lw_m7 19 rfl) rfl
theorem q1594 : (Jvm.Cond.instanceMethod ({ cls := "BoxSpans$Theatre", name := "at", desc := "(II)I" } : Jvm.MethodName)) ∈ lw_all := lw_g (lw_at lw_m7 54 rfl) rfl
theorem q1595 : (Jvm.Cond.selects "BoxSpans$Theatre" ({ cls := "BoxSpans$Theatre", name := "at", desc := "(II)I" } : Jvm.MethodName) ({ cls := "BoxSpans$Theatre", name := "at", desc := "(II)I" } : Jvm.MethodName)) ∈ lw_all := lw_g (lw_at lw_m7 55 rfl) rfl
theorem q1596 : (Jvm.Cond.code ({ cls := "BoxSpans$Theatre", name := "at", desc := "(II)I" } : Jvm.MethodName) prog_12_method_31_code (4 : Nat) (Option.some Jvm.ClassFile.FieldType.int)) ∈ lw_all := lw_g (lw_at lw_m7 56 rfl) rfl
theorem q1607 : (Jvm.Cond.instanceMethod ({ cls := "BoxSpans$Theatre", name := "wishes", desc := "(ILBoxSpans$Span;)I" } : Jvm.MethodName)) ∈ lw_all := lw_g (lw_at lw_m7 67 rfl) rfl
theorem q1608 : (Jvm.Cond.selects "BoxSpans$Theatre" ({ cls := "BoxSpans$Theatre", name := "wishes", desc := "(ILBoxSpans$Span;)I" } : Jvm.MethodName) ({ cls := "BoxSpans$Theatre", name := "wishes", desc := "(ILBoxSpans$Span;)I" } : Jvm.MethodName)) ∈ lw_all := lw_g (lw_at lw_m7 68 rfl) rfl
theorem q1609 : (Jvm.Cond.code ({ cls := "BoxSpans$Theatre", name := "wishes", desc := "(ILBoxSpans$Span;)I" } : Jvm.MethodName) prog_12_method_21_code (3 : Nat) (Option.some Jvm.ClassFile.FieldType.int)) ∈ lw_all := lw_g (lw_at lw_m7 69 rfl) rfl
theorem q1611 : (Jvm.Cond.methodLink "BoxSpans$Theatre" (183 : Nat) ({ cls := "BoxSpans$Wish", name := "<init>", desc := "(ILBoxSpans$Span;)V" } : Jvm.MethodName)) ∈ lw_all := lw_g (lw_at lw_m7 71 rfl) rfl
theorem q1629 : (Jvm.Cond.instanceMethod ({ cls := "BoxSpans$Theatre", name := "wishes", desc := "()Ljava/util/List;" } : Jvm.MethodName)) ∈ lw_all := lw_g (lw_at lw_m7 89 rfl) rfl
theorem q1630 : (Jvm.Cond.selects "BoxSpans$Theatre" ({ cls := "BoxSpans$Theatre", name := "wishes", desc := "()Ljava/util/List;" } : Jvm.MethodName) ({ cls := "BoxSpans$Theatre", name := "wishes", desc := "()Ljava/util/List;" } : Jvm.MethodName)) ∈ lw_all := lw_g (lw_at lw_m7 90 rfl) rfl
theorem q1631 : (Jvm.Cond.code ({ cls := "BoxSpans$Theatre", name := "wishes", desc := "()Ljava/util/List;" } : Jvm.MethodName) prog_12_method_7_code (1 : Nat) (Option.some (Jvm.ClassFile.FieldType.object "java/util/List"))) ∈ lw_all := lw_g (lw_at lw_m7 91 rfl) rfl
theorem q1635 : (Jvm.Cond.instanceMethod ({ cls := "BoxSpans$Theatre", name := "drops", desc := "(I)I" } : Jvm.MethodName)) ∈ lw_all := lw_g (lw_at lw_m7 95 rfl) rfl
theorem q1636 : (Jvm.Cond.selects "BoxSpans$Theatre" ({ cls := "BoxSpans$Theatre", name := "drops", desc := "(I)I" } : Jvm.MethodName) ({ cls := "BoxSpans$Theatre", name := "drops", desc := "(I)I" } : Jvm.MethodName)) ∈ lw_all := lw_g (lw_at lw_m7 96 rfl) rfl
theorem q1637 : (Jvm.Cond.code ({ cls := "BoxSpans$Theatre", name := "drops", desc := "(I)I" } : Jvm.MethodName) prog_12_method_22_code (2 : Nat) (Option.some Jvm.ClassFile.FieldType.int)) ∈ lw_all := lw_g (lw_at lw_m7 97 rfl) rfl
theorem q1638 : (Jvm.Cond.interfaceEntry "BoxSpans$Theatre" (186 : Nat)) ∈ lw_tbl := lw_at lw_m7 98 rfl
theorem q1639 : (Jvm.Cond.methodLink "BoxSpans$Theatre" (186 : Nat) ({ cls := "java/util/List", name := "remove", desc := "(I)Ljava/lang/Object;" } : Jvm.MethodName)) ∈ lw_all := lw_g (lw_at lw_m7 99 rfl) rfl
theorem q1691 : (Jvm.Cond.instanceMethod ({ cls := "BoxSpans$Theatre", name := "overAgain", desc := "(I)I" } : Jvm.MethodName)) ∈ lw_all := lw_g (lw_at lw_m7 151 rfl) rfl
theorem q1692 : (Jvm.Cond.selects "BoxSpans$Theatre" ({ cls := "BoxSpans$Theatre", name := "overAgain", desc := "(I)I" } : Jvm.MethodName) ({ cls := "BoxSpans$Theatre", name := "overAgain", desc := "(I)I" } : Jvm.MethodName)) ∈ lw_all := lw_g (lw_at lw_m7 152 rfl) rfl
theorem q1693 : (Jvm.Cond.code ({ cls := "BoxSpans$Theatre", name := "overAgain", desc := "(I)I" } : Jvm.MethodName) prog_12_method_28_code (6 : Nat) (Option.some Jvm.ClassFile.FieldType.int)) ∈ lw_all := lw_g (lw_at lw_m7 153 rfl) rfl
theorem q1732 : (Jvm.Cond.instanceMethod ({ cls := "BoxSpans$Theatre", name := "allots", desc := "()I" } : Jvm.MethodName)) ∈ lw_all := lw_g (lw_at lw_m7 192 rfl) rfl
theorem q1733 : (Jvm.Cond.selects "BoxSpans$Theatre" ({ cls := "BoxSpans$Theatre", name := "allots", desc := "()I" } : Jvm.MethodName) ({ cls := "BoxSpans$Theatre", name := "allots", desc := "()I" } : Jvm.MethodName)) ∈ lw_all := lw_g (lw_at lw_m7 193 rfl) rfl
theorem q1734 : (Jvm.Cond.code ({ cls := "BoxSpans$Theatre", name := "allots", desc := "()I" } : Jvm.MethodName) prog_12_method_25_code (5 : Nat) (Option.some Jvm.ClassFile.FieldType.int)) ∈ lw_all := lw_g (lw_at lw_m7 194 rfl) rfl
theorem q1735 : (Jvm.Cond.interfaceEntry "BoxSpans$Theatre" (200 : Nat)) ∈ lw_tbl := lw_at lw_m7 195 rfl
theorem q1736 : (Jvm.Cond.methodLink "BoxSpans$Theatre" (200 : Nat) ({ cls := "java/util/List", name := "isEmpty", desc := "()Z" } : Jvm.MethodName)) ∈ lw_all := lw_g (lw_at lw_m7 196 rfl) rfl
theorem q1737 : (Jvm.Cond.methodLink "BoxSpans$Theatre" (203 : Nat) ({ cls := "BoxSpans$Theatre", name := "byEnds", desc := "()Ljava/util/List;" } : Jvm.MethodName)) ∈ lw_all := lw_g (lw_at lw_m7 197 rfl) rfl
theorem q1738 : (Jvm.Cond.privateMethod ({ cls := "BoxSpans$Theatre", name := "byEnds", desc := "()Ljava/util/List;" } : Jvm.MethodName)) ∈ lw_tbl := lw_at lw_m7 198 rfl
theorem q1739 : (Jvm.Cond.instanceMethod ({ cls := "BoxSpans$Theatre", name := "byEnds", desc := "()Ljava/util/List;" } : Jvm.MethodName)) ∈ lw_all := lw_g (lw_at lw_m7 199 rfl) rfl
theorem q1740 : (Jvm.Cond.code ({ cls := "BoxSpans$Theatre", name := "byEnds", desc := "()Ljava/util/List;" } : Jvm.MethodName) prog_12_method_24_code (7 : Nat) (Option.some (Jvm.ClassFile.FieldType.object "java/util/List"))) ∈ lw_all := lw_g (lw_at lw_m7 200 rfl) rfl
theorem q1741 : (Jvm.Cond.classLink "BoxSpans$Theatre" (189 : Nat) "java/util/LinkedList") ∈ lw_all := lw_g (lw_at lw_m7 201 rfl) rfl
theorem q1742 : (Jvm.Cond.methodLink "BoxSpans$Theatre" (191 : Nat) ({ cls := "java/util/LinkedList", name := "<init>", desc := "()V" } : Jvm.MethodName)) ∈ lw_all := lw_g (lw_at lw_m7 202 rfl) rfl
theorem q1743 : (Jvm.Cond.methodLink "BoxSpans$Theatre" (192 : Nat) ({ cls := "java/util/LinkedList", name := "iterator", desc := "()Ljava/util/Iterator;" } : Jvm.MethodName)) ∈ lw_all := lw_g (lw_at lw_m7 203 rfl) rfl
theorem q1747 : (Jvm.Cond.methodLink "BoxSpans$Theatre" (193 : Nat) ({ cls := "BoxSpans$Wish", name := "endsAhead", desc := "(LBoxSpans$Wish;)Z" } : Jvm.MethodName)) ∈ lw_all := lw_g (lw_at lw_m7 207 rfl) rfl
theorem q1753 : (Jvm.Cond.methodLink "BoxSpans$Theatre" (197 : Nat) ({ cls := "java/util/LinkedList", name := "add", desc := "(ILjava/lang/Object;)V" } : Jvm.MethodName)) ∈ lw_all := lw_g (lw_at lw_m7 213 rfl) rfl
theorem q1761 : (Jvm.Cond.methodLink "BoxSpans$Theatre" (207 : Nat) ({ cls := "BoxSpans$Wish", name := "party", desc := "()I" } : Jvm.MethodName)) ∈ lw_all := lw_g (lw_at lw_m7 221 rfl) rfl
theorem q1762 : (Jvm.Cond.methodLink "BoxSpans$Theatre" (208 : Nat) ({ cls := "BoxSpans$Theatre", name := "roomFor", desc := "(ILBoxSpans$Timed;)I" } : Jvm.MethodName)) ∈ lw_all := lw_g (lw_at lw_m7 222 rfl) rfl
theorem q1763 : (Jvm.Cond.instanceMethod ({ cls := "BoxSpans$Theatre", name := "roomFor", desc := "(ILBoxSpans$Timed;)I" } : Jvm.MethodName)) ∈ lw_all := lw_g (lw_at lw_m7 223 rfl) rfl
theorem q1764 : (Jvm.Cond.selects "BoxSpans$Theatre" ({ cls := "BoxSpans$Theatre", name := "roomFor", desc := "(ILBoxSpans$Timed;)I" } : Jvm.MethodName) ({ cls := "BoxSpans$Theatre", name := "roomFor", desc := "(ILBoxSpans$Timed;)I" } : Jvm.MethodName)) ∈ lw_all := lw_g (lw_at lw_m7 224 rfl) rfl
theorem q1765 : (Jvm.Cond.code ({ cls := "BoxSpans$Theatre", name := "roomFor", desc := "(ILBoxSpans$Timed;)I" } : Jvm.MethodName) prog_12_method_23_code (4 : Nat) (Option.some Jvm.ClassFile.FieldType.int)) ∈ lw_all := lw_g (lw_at lw_m7 225 rfl) rfl
theorem q1766 : (Jvm.Cond.methodLink "BoxSpans$Theatre" (212 : Nat) ({ cls := "BoxSpans$Wish", name := "span", desc := "()LBoxSpans$Span;" } : Jvm.MethodName)) ∈ lw_all := lw_g (lw_at lw_m7 226 rfl) rfl
theorem q1770 : (Jvm.Cond.methodLink "BoxSpans$Theatre" (213 : Nat) ({ cls := "BoxSpans$Theatre", name := "numberOf", desc := "(LBoxSpans$Wish;)I" } : Jvm.MethodName)) ∈ lw_all := lw_g (lw_at lw_m7 230 rfl) rfl
theorem q1771 : (Jvm.Cond.privateMethod ({ cls := "BoxSpans$Theatre", name := "numberOf", desc := "(LBoxSpans$Wish;)I" } : Jvm.MethodName)) ∈ lw_tbl := lw_at lw_m7 231 rfl
theorem q1772 : (Jvm.Cond.instanceMethod ({ cls := "BoxSpans$Theatre", name := "numberOf", desc := "(LBoxSpans$Wish;)I" } : Jvm.MethodName)) ∈ lw_all := lw_g (lw_at lw_m7 232 rfl) rfl
theorem q1773 : (Jvm.Cond.code ({ cls := "BoxSpans$Theatre", name := "numberOf", desc := "(LBoxSpans$Wish;)I" } : Jvm.MethodName) prog_12_method_26_code (3 : Nat) (Option.some Jvm.ClassFile.FieldType.int)) ∈ lw_all := lw_g (lw_at lw_m7 233 rfl) rfl
theorem q1774 : (Jvm.Cond.methodLink "BoxSpans$Theatre" (217 : Nat) ({ cls := "BoxSpans$Theatre", name := "drops", desc := "(I)I" } : Jvm.MethodName)) ∈ lw_all := lw_g (lw_at lw_m7 234 rfl) rfl
theorem q1785 : (Jvm.Cond.instanceMethod ({ cls := "BoxSpans$Theatre", name := "spans", desc := "(I)LBoxSpans$Runs;" } : Jvm.MethodName)) ∈ lw_all := lw_g (lw_at lw_m8 5 rfl) rfl
theorem q1786 : (Jvm.Cond.selects "BoxSpans$Theatre" ({ cls := "BoxSpans$Theatre", name := "spans", desc := "(I)LBoxSpans$Runs;" } : Jvm.MethodName) ({ cls := "BoxSpans$Theatre", name := "spans", desc := "(I)LBoxSpans$Runs;" } : Jvm.MethodName)) ∈ lw_all := lw_g (lw_at lw_m8 6 rfl) rfl
theorem q1787 : (Jvm.Cond.code ({ cls := "BoxSpans$Theatre", name := "spans", desc := "(I)LBoxSpans$Runs;" } : Jvm.MethodName) prog_12_method_33_code (3 : Nat) (Option.some (Jvm.ClassFile.FieldType.object "BoxSpans$Runs"))) ∈ lw_all := lw_g (lw_at lw_m8 7 rfl) rfl
theorem q1788 : (Jvm.Cond.methodLink "BoxSpans$Theatre" (232 : Nat) ({ cls := "BoxSpans$Theatre", name := "lit", desc := "(I)[Z" } : Jvm.MethodName)) ∈ lw_all := lw_g (lw_at lw_m8 8 rfl) rfl
theorem q1789 : (Jvm.Cond.instanceMethod ({ cls := "BoxSpans$Theatre", name := "lit", desc := "(I)[Z" } : Jvm.MethodName)) ∈ lw_all := lw_g (lw_at lw_m8 9 rfl) rfl
theorem q1790 : (Jvm.Cond.selects "BoxSpans$Theatre" ({ cls := "BoxSpans$Theatre", name := "lit", desc := "(I)[Z" } : Jvm.MethodName) ({ cls := "BoxSpans$Theatre", name := "lit", desc := "(I)[Z" } : Jvm.MethodName)) ∈ lw_all := lw_g (lw_at lw_m8 10 rfl) rfl
theorem q1791 : (Jvm.Cond.code ({ cls := "BoxSpans$Theatre", name := "lit", desc := "(I)[Z" } : Jvm.MethodName) prog_12_method_32_code (6 : Nat) (Option.some (Jvm.ClassFile.FieldType.array Jvm.ClassFile.FieldType.boolean))) ∈ lw_all := lw_g (lw_at lw_m8 11 rfl) rfl
theorem q1792 : (Jvm.Cond.classLink "BoxSpans$Theatre" (236 : Nat) "BoxSpans$Runs") ∈ lw_all := lw_g (lw_at lw_m8 12 rfl) rfl
theorem q1793 : (Jvm.Cond.static ({ cls := "BoxSpans$Theatre", name := "lambda$spans$0", desc := "([ZI)Z" } : Jvm.MethodName)) ∈ lw_all := lw_g (lw_at lw_m8 13 rfl) rfl
theorem q1794 : (Jvm.Cond.code ({ cls := "BoxSpans$Theatre", name := "lambda$spans$0", desc := "([ZI)Z" } : Jvm.MethodName) prog_12_method_42_code (2 : Nat) (Option.some Jvm.ClassFile.FieldType.boolean)) ∈ lw_all := lw_g (lw_at lw_m8 14 rfl) rfl
theorem q1795 : (Jvm.Cond.methodLink "BoxSpans$Theatre" (242 : Nat) ({ cls := "BoxSpans$Runs", name := "<init>", desc := "(LBoxSpans$Question;)V" } : Jvm.MethodName)) ∈ lw_all := lw_g (lw_at lw_m8 15 rfl) rfl
theorem q1830 : (Jvm.Cond.instanceMethod ({ cls := "BoxSpans$Theatre", name := "gaps", desc := "(I)LBoxSpans$Runs;" } : Jvm.MethodName)) ∈ lw_all := lw_g (lw_at lw_m8 50 rfl) rfl
theorem q1831 : (Jvm.Cond.selects "BoxSpans$Theatre" ({ cls := "BoxSpans$Theatre", name := "gaps", desc := "(I)LBoxSpans$Runs;" } : Jvm.MethodName) ({ cls := "BoxSpans$Theatre", name := "gaps", desc := "(I)LBoxSpans$Runs;" } : Jvm.MethodName)) ∈ lw_all := lw_g (lw_at lw_m8 51 rfl) rfl
theorem q1832 : (Jvm.Cond.code ({ cls := "BoxSpans$Theatre", name := "gaps", desc := "(I)LBoxSpans$Runs;" } : Jvm.MethodName) prog_12_method_34_code (3 : Nat) (Option.some (Jvm.ClassFile.FieldType.object "BoxSpans$Runs"))) ∈ lw_all := lw_g (lw_at lw_m8 52 rfl) rfl
theorem q1833 : (Jvm.Cond.static ({ cls := "BoxSpans$Theatre", name := "lambda$gaps$1", desc := "([ZI)Z" } : Jvm.MethodName)) ∈ lw_all := lw_g (lw_at lw_m8 53 rfl) rfl
theorem q1834 : (Jvm.Cond.code ({ cls := "BoxSpans$Theatre", name := "lambda$gaps$1", desc := "([ZI)Z" } : Jvm.MethodName) prog_12_method_41_code (2 : Nat) (Option.some Jvm.ClassFile.FieldType.boolean)) ∈ lw_all := lw_g (lw_at lw_m8 54 rfl) rfl
theorem q1908 : (Jvm.Cond.instanceMethod ({ cls := "BoxSpans$Theatre", name := "ranked", desc := "()Ljava/util/List;" } : Jvm.MethodName)) ∈ lw_all := lw_g (lw_at lw_m8 128 rfl) rfl
theorem q1909 : (Jvm.Cond.selects "BoxSpans$Theatre" ({ cls := "BoxSpans$Theatre", name := "ranked", desc := "()Ljava/util/List;" } : Jvm.MethodName) ({ cls := "BoxSpans$Theatre", name := "ranked", desc := "()Ljava/util/List;" } : Jvm.MethodName)) ∈ lw_all := lw_g (lw_at lw_m8 129 rfl) rfl
theorem q1910 : (Jvm.Cond.code ({ cls := "BoxSpans$Theatre", name := "ranked", desc := "()Ljava/util/List;" } : Jvm.MethodName) prog_12_method_38_code (6 : Nat) (Option.some (Jvm.ClassFile.FieldType.object "java/util/List"))) ∈ lw_all := lw_g (lw_at lw_m8 130 rfl) rfl
theorem q1911 : (Jvm.Cond.methodLink "BoxSpans$Theatre" (249 : Nat) ({ cls := "BoxSpans$Theatre", name := "isAhead", desc := "(II)Z" } : Jvm.MethodName)) ∈ lw_all := lw_g (lw_at lw_m8 131 rfl) rfl
theorem q1912 : (Jvm.Cond.privateMethod ({ cls := "BoxSpans$Theatre", name := "isAhead", desc := "(II)Z" } : Jvm.MethodName)) ∈ lw_tbl := lw_at lw_m8 132 rfl
theorem q1913 : (Jvm.Cond.instanceMethod ({ cls := "BoxSpans$Theatre", name := "isAhead", desc := "(II)Z" } : Jvm.MethodName)) ∈ lw_all := lw_g (lw_at lw_m8 133 rfl) rfl
theorem q1914 : (Jvm.Cond.code ({ cls := "BoxSpans$Theatre", name := "isAhead", desc := "(II)Z" } : Jvm.MethodName) prog_12_method_37_code (4 : Nat) (Option.some Jvm.ClassFile.FieldType.boolean)) ∈ lw_all := lw_g (lw_at lw_m8 134 rfl) rfl
theorem q2072 : (Jvm.Cond.selects "BoxSpans$Theatre" ({ cls := "java/lang/Object", name := "toString", desc := "()Ljava/lang/String;" } : Jvm.MethodName) ({ cls := "java/lang/Object", name := "toString", desc := "()Ljava/lang/String;" } : Jvm.MethodName)) ∈ lw_all := lw_g (lw_at lw_m9 52 rfl) rfl
theorem q2458 : (Jvm.Cond.instanceMethod ({ cls := "BoxSpans$Theatre", name := "byMinutes", desc := "(I)Ljava/util/List;" } : Jvm.MethodName)) ∈ lw_all := lw_g (lw_at lw_m10 198 rfl) rfl
theorem q2459 : (Jvm.Cond.selects "BoxSpans$Theatre" ({ cls := "BoxSpans$Theatre", name := "byMinutes", desc := "(I)Ljava/util/List;" } : Jvm.MethodName) ({ cls := "BoxSpans$Theatre", name := "byMinutes", desc := "(I)Ljava/util/List;" } : Jvm.MethodName)) ∈ lw_all := lw_g (lw_at lw_m10 199 rfl) rfl
theorem q2460 : (Jvm.Cond.code ({ cls := "BoxSpans$Theatre", name := "byMinutes", desc := "(I)Ljava/util/List;" } : Jvm.MethodName) prog_12_method_39_code (8 : Nat) (Option.some (Jvm.ClassFile.FieldType.object "java/util/List"))) ∈ lw_all := lw_g (lw_at lw_m10 200 rfl) rfl
theorem q2496 : (Jvm.Cond.instanceMethod ({ cls := "BoxSpans$Theatre", name := "allotted", desc := "()I" } : Jvm.MethodName)) ∈ lw_all := lw_g (lw_at lw_m10 236 rfl) rfl
theorem q2497 : (Jvm.Cond.selects "BoxSpans$Theatre" ({ cls := "BoxSpans$Theatre", name := "allotted", desc := "()I" } : Jvm.MethodName) ({ cls := "BoxSpans$Theatre", name := "allotted", desc := "()I" } : Jvm.MethodName)) ∈ lw_all := lw_g (lw_at lw_m10 237 rfl) rfl
theorem q2498 : (Jvm.Cond.code ({ cls := "BoxSpans$Theatre", name := "allotted", desc := "()I" } : Jvm.MethodName) prog_12_method_8_code (1 : Nat) (Option.some Jvm.ClassFile.FieldType.int)) ∈ lw_all := lw_g (lw_at lw_m10 238 rfl) rfl
theorem q2500 : (Jvm.Cond.instanceMethod ({ cls := "BoxSpans$Theatre", name := "cancelled", desc := "()I" } : Jvm.MethodName)) ∈ lw_all := lw_g (lw_at lw_m11 0 rfl) rfl
theorem q2501 : (Jvm.Cond.selects "BoxSpans$Theatre" ({ cls := "BoxSpans$Theatre", name := "cancelled", desc := "()I" } : Jvm.MethodName) ({ cls := "BoxSpans$Theatre", name := "cancelled", desc := "()I" } : Jvm.MethodName)) ∈ lw_all := lw_g (lw_at lw_m11 1 rfl) rfl
theorem q2502 : (Jvm.Cond.code ({ cls := "BoxSpans$Theatre", name := "cancelled", desc := "()I" } : Jvm.MethodName) prog_12_method_9_code (1 : Nat) (Option.some Jvm.ClassFile.FieldType.int)) ∈ lw_all := lw_g (lw_at lw_m11 2 rfl) rfl
theorem q2504 : (Jvm.Cond.instanceMethod ({ cls := "BoxSpans$Theatre", name := "joinings", desc := "()I" } : Jvm.MethodName)) ∈ lw_all := lw_g (lw_at lw_m11 4 rfl) rfl
theorem q2505 : (Jvm.Cond.selects "BoxSpans$Theatre" ({ cls := "BoxSpans$Theatre", name := "joinings", desc := "()I" } : Jvm.MethodName) ({ cls := "BoxSpans$Theatre", name := "joinings", desc := "()I" } : Jvm.MethodName)) ∈ lw_all := lw_g (lw_at lw_m11 5 rfl) rfl
theorem q2506 : (Jvm.Cond.code ({ cls := "BoxSpans$Theatre", name := "joinings", desc := "()I" } : Jvm.MethodName) prog_12_method_10_code (1 : Nat) (Option.some Jvm.ClassFile.FieldType.int)) ∈ lw_all := lw_g (lw_at lw_m11 6 rfl) rfl
theorem q3096 : (Jvm.Cond.castable "BoxSpans$Theatre" "java/lang/Object") ∈ lw_tbl := lw_at lw_m13 116 rfl
theorem in_X2 : ∀ w ∈ wsX20, w ∈ lw_all := lw_in wsX20 [203, 205, 207, 209, 211, 213] (by decide +kernel) (by decide +kernel)
