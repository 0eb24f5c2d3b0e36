/-! BoxSpansModel -/
set_option maxRecDepth 100000
def RX3 : String := "BoxSpansModel"
def TX3 : u_T := fun k => match k with
  | 0 => ("BoxSpansModel", "s", "[I", true)
  | 1 => ("BoxSpansModel", "was", "[I", true)
  | 2 => ("BoxSpansModel", "saved", "[I", true)
  | 3 => ("BoxSpansModel", "past", "[I", true)
  | 4 => ("BoxSpansModel", "changes", "I", false)
  | 5 => ("BoxSpansModel", "thrown", "I", false)
  | 6 => ("BoxSpansModel", "reason", "I", false)
  | 7 => ("BoxSpansModel", "detail", "I", false)
  | 8 => ("BoxSpansModel", "cause", "I", false)
  | 9 => ("BoxSpansModel", "causeDetail", "I", false)
  | 10 => ("BoxSpansModel", "errorAt", "I", false)
  | 11 => ("BoxSpansModel", "isSaved", "Z", false)
  | 12 => ("BoxSpansModel", "freeFrom", "[I", true)
  | 13 => ("BoxSpansModel", "told", "[I", true)
  | 14 => ("BoxSpansModel", "longest", "I", false)
  | 15 => ("BoxSpansModel", "line", "[I", true)
  | 16 => ("BoxSpansModel", "lined", "I", false)
  | 17 => ("BoxSpansModel", "tape", "[I", true)
  | 18 => ("BoxSpansModel", "commands", "[I", true)
  | 19 => ("BoxSpansModel", "taped", "I", false)
  | 20 => ("BoxSpansModel", "here", "I", false)
  | 21 => ("BoxSpansModel", "commandMany", "I", false)
  | _ => ("BoxSpansModel", "word", "I", false)
def tyX3 : Nat → FieldType := fun k => match k with
  | 0 => .array .int
  | 1 => .array .int
  | 2 => .array .int
  | 3 => .array .int
  | 4 => .int
  | 5 => .int
  | 6 => .int
  | 7 => .int
  | 8 => .int
  | 9 => .int
  | 10 => .int
  | 11 => .boolean
  | 12 => .array .int
  | 13 => .array .int
  | 14 => .int
  | 15 => .array .int
  | 16 => .int
  | 17 => .array .int
  | 18 => .array .int
  | 19 => .int
  | 20 => .int
  | 21 => .int
  | _ => .int
abbrev wsX30 : List Cond := u_ws RX3 TX3 23
set_option maxRecDepth 100000 in
theorem nmX3 : ∀ a, a < 23 → ∀ b, b < 23 → a ≠ b → (TX3 a).2.1 ≠ (TX3 b).2.1 := by decide +kernel
set_option maxRecDepth 100000 in
theorem tyX3_ok : ∀ k, k < 23 → parseFieldDescriptor (TX3 k).2.2.1 = some (tyX3 k) := by decide +kernel
abbrev cX3_init : ByteArray := prog_16_method_1_code
def yX3_init : MethodName := ⟨RX3, "<init>", "()V"⟩
def dkwX3_init_3 : List UInt8 := [16, 60, 188, 10, 181, 0, 35, 42, 16, 60, 188, 10, 181, 0, 38, 177]
abbrev dktX3_init_3 : List UInt8 := dkwX3_init_3 ++ []
def dkwX3_init_2 : List UInt8 := [16, 12, 188, 10, 181, 0, 26, 42, 5, 188, 10, 181, 0, 29, 42, 17, 1, 144, 188, 10, 181, 0, 32, 42]
abbrev dktX3_init_2 : List UInt8 := dkwX3_init_2 ++ dktX3_init_3
def dkwX3_init_1 : List UInt8 := [17, 0, 197, 188, 10, 181, 0, 16, 42, 17, 6, 40, 188, 10, 181, 0, 19, 42, 2, 181, 0, 22, 42]
abbrev dktX3_init_1 : List UInt8 := dkwX3_init_1 ++ dktX3_init_2
def dkwX3_init_0 : List UInt8 := [42, 183, 0, 3, 42, 17, 0, 197, 188, 10, 181, 0, 9, 42, 17, 0, 197, 188, 10, 181, 0, 13, 42]
abbrev dktX3_init_0 : List UInt8 := dkwX3_init_0 ++ dktX3_init_1
theorem dksX3_init_0 : cX3_init.data.toList.drop 0 = dktX3_init_0 := by decide +kernel
theorem dksX3_init_1 : cX3_init.data.toList.drop 23 = dktX3_init_1 := dk_seg dksX3_init_0 23 rfl rfl
theorem dksX3_init_2 : cX3_init.data.toList.drop 46 = dktX3_init_2 := dk_seg dksX3_init_1 23 rfl rfl
theorem dksX3_init_3 : cX3_init.data.toList.drop 70 = dktX3_init_3 := dk_seg dksX3_init_2 24 rfl rfl
theorem dX3_init_0 : decode cX3_init 0 = .ok (.aload_n 0, 1) := dk_42 (dk_at dksX3_init_0 0 rfl rfl)
theorem dX3_init_1 : decode cX3_init 1 = .ok (.invokespecial 3, 3) := dk_183 0 3 (dk_at dksX3_init_0 1 rfl rfl)
theorem dX3_init_4 : decode cX3_init 4 = .ok (.aload_n 0, 1) := dk_42 (dk_at dksX3_init_0 4 rfl rfl)
theorem dX3_init_5 : decode cX3_init 5 = .ok (.sipush 197, 3) := dk_17 0 197 (dk_at dksX3_init_0 5 rfl rfl)
theorem dX3_init_8 : decode cX3_init 8 = .ok (.newarray .int, 2) := dk_188_10 (dk_at dksX3_init_0 8 rfl rfl)
theorem dX3_init_10 : decode cX3_init 10 = .ok (.putfield 9, 3) := dk_181 0 9 (dk_at dksX3_init_0 10 rfl rfl)
theorem dX3_init_13 : decode cX3_init 13 = .ok (.aload_n 0, 1) := dk_42 (dk_at dksX3_init_0 13 rfl rfl)
theorem dX3_init_14 : decode cX3_init 14 = .ok (.sipush 197, 3) := dk_17 0 197 (dk_at dksX3_init_0 14 rfl rfl)
theorem dX3_init_17 : decode cX3_init 17 = .ok (.newarray .int, 2) := dk_188_10 (dk_at dksX3_init_0 17 rfl rfl)
theorem dX3_init_19 : decode cX3_init 19 = .ok (.putfield 13, 3) := dk_181 0 13 (dk_at dksX3_init_0 19 rfl rfl)
theorem dX3_init_22 : decode cX3_init 22 = .ok (.aload_n 0, 1) := dk_42 (dk_at dksX3_init_0 22 rfl rfl)
theorem dX3_init_23 : decode cX3_init 23 = .ok (.sipush 197, 3) := dk_17 0 197 (dk_at dksX3_init_1 0 rfl rfl)
theorem dX3_init_26 : decode cX3_init 26 = .ok (.newarray .int, 2) := dk_188_10 (dk_at dksX3_init_1 3 rfl rfl)
theorem dX3_init_28 : decode cX3_init 28 = .ok (.putfield 16, 3) := dk_181 0 16 (dk_at dksX3_init_1 5 rfl rfl)
theorem dX3_init_31 : decode cX3_init 31 = .ok (.aload_n 0, 1) := dk_42 (dk_at dksX3_init_1 8 rfl rfl)
theorem dX3_init_32 : decode cX3_init 32 = .ok (.sipush 1576, 3) := dk_17 6 40 (dk_at dksX3_init_1 9 rfl rfl)
theorem dX3_init_35 : decode cX3_init 35 = .ok (.newarray .int, 2) := dk_188_10 (dk_at dksX3_init_1 12 rfl rfl)
theorem dX3_init_37 : decode cX3_init 37 = .ok (.putfield 19, 3) := dk_181 0 19 (dk_at dksX3_init_1 14 rfl rfl)
theorem dX3_init_40 : decode cX3_init 40 = .ok (.aload_n 0, 1) := dk_42 (dk_at dksX3_init_1 17 rfl rfl)
theorem dX3_init_41 : decode cX3_init 41 = .ok (.iconst (-1), 1) := dk_2 (dk_at dksX3_init_1 18 rfl rfl)
theorem dX3_init_42 : decode cX3_init 42 = .ok (.putfield 22, 3) := dk_181 0 22 (dk_at dksX3_init_1 19 rfl rfl)
theorem dX3_init_45 : decode cX3_init 45 = .ok (.aload_n 0, 1) := dk_42 (dk_at dksX3_init_1 22 rfl rfl)
theorem dX3_init_46 : decode cX3_init 46 = .ok (.bipush 12, 2) := dk_16 12 (dk_at dksX3_init_2 0 rfl rfl)
theorem dX3_init_48 : decode cX3_init 48 = .ok (.newarray .int, 2) := dk_188_10 (dk_at dksX3_init_2 2 rfl rfl)
theorem dX3_init_50 : decode cX3_init 50 = .ok (.putfield 26, 3) := dk_181 0 26 (dk_at dksX3_init_2 4 rfl rfl)
theorem dX3_init_53 : decode cX3_init 53 = .ok (.aload_n 0, 1) := dk_42 (dk_at dksX3_init_2 7 rfl rfl)
theorem dX3_init_54 : decode cX3_init 54 = .ok (.iconst 2, 1) := dk_5 (dk_at dksX3_init_2 8 rfl rfl)
theorem dX3_init_55 : decode cX3_init 55 = .ok (.newarray .int, 2) := dk_188_10 (dk_at dksX3_init_2 9 rfl rfl)
theorem dX3_init_57 : decode cX3_init 57 = .ok (.putfield 29, 3) := dk_181 0 29 (dk_at dksX3_init_2 11 rfl rfl)
theorem dX3_init_60 : decode cX3_init 60 = .ok (.aload_n 0, 1) := dk_42 (dk_at dksX3_init_2 14 rfl rfl)
theorem dX3_init_61 : decode cX3_init 61 = .ok (.sipush 400, 3) := dk_17 1 144 (dk_at dksX3_init_2 15 rfl rfl)
theorem dX3_init_64 : decode cX3_init 64 = .ok (.newarray .int, 2) := dk_188_10 (dk_at dksX3_init_2 18 rfl rfl)
theorem dX3_init_66 : decode cX3_init 66 = .ok (.putfield 32, 3) := dk_181 0 32 (dk_at dksX3_init_2 20 rfl rfl)
theorem dX3_init_69 : decode cX3_init 69 = .ok (.aload_n 0, 1) := dk_42 (dk_at dksX3_init_2 23 rfl rfl)
theorem dX3_init_70 : decode cX3_init 70 = .ok (.bipush 60, 2) := dk_16 60 (dk_at dksX3_init_3 0 rfl rfl)
theorem dX3_init_72 : decode cX3_init 72 = .ok (.newarray .int, 2) := dk_188_10 (dk_at dksX3_init_3 2 rfl rfl)
theorem dX3_init_74 : decode cX3_init 74 = .ok (.putfield 35, 3) := dk_181 0 35 (dk_at dksX3_init_3 4 rfl rfl)
theorem dX3_init_77 : decode cX3_init 77 = .ok (.aload_n 0, 1) := dk_42 (dk_at dksX3_init_3 7 rfl rfl)
theorem dX3_init_78 : decode cX3_init 78 = .ok (.bipush 60, 2) := dk_16 60 (dk_at dksX3_init_3 8 rfl rfl)
theorem dX3_init_80 : decode cX3_init 80 = .ok (.newarray .int, 2) := dk_188_10 (dk_at dksX3_init_3 10 rfl rfl)
theorem dX3_init_82 : decode cX3_init 82 = .ok (.putfield 38, 3) := dk_181 0 38 (dk_at dksX3_init_3 12 rfl rfl)
theorem dX3_init_85 : decode cX3_init 85 = .ok (.return_, 1) := dk_177 (dk_at dksX3_init_3 15 rfl rfl)
abbrev cX3_thrown : ByteArray := prog_16_method_2_code
def yX3_thrown : MethodName := ⟨RX3, "thrown", "()I"⟩
theorem dX3_thrown_0 : decode cX3_thrown 0 = .ok (.aload_n 0, 1) := by decide +kernel
theorem dX3_thrown_1 : decode cX3_thrown 1 = .ok (.getfield 41, 3) := by decide +kernel
theorem dX3_thrown_4 : decode cX3_thrown 4 = .ok (.ireturn, 1) := by decide +kernel
abbrev cX3_box : ByteArray := prog_16_method_24_code
def yX3_box : MethodName := ⟨RX3, "box", "(I)I"⟩
def dkwX3_box_4 : List UInt8 := [182, 0, 99, 172]
abbrev dktX3_box_4 : List UInt8 := dkwX3_box_4 ++ []
def dkwX3_box_3 : List UInt8 := [46, 96, 27, 79, 42, 180, 0, 9, 3, 92, 46, 4, 96, 79, 42, 42, 180, 0, 9, 3, 46, 4, 100, 5]
abbrev dktX3_box_3 : List UInt8 := dkwX3_box_3 ++ dktX3_box_4
def dkwX3_box_2 : List UInt8 := [182, 0, 95, 153, 0, 10, 42, 3, 5, 182, 0, 99, 172, 42, 180, 0, 9, 16, 6, 42, 180, 0, 9, 3]
abbrev dktX3_box_2 : List UInt8 := dkwX3_box_2 ++ dktX3_box_3
def dkwX3_box_1 : List UInt8 := [153, 0, 5, 3, 172, 42, 42, 180, 0, 9, 3, 46, 8, 160, 0, 7, 4, 167, 0, 4, 3, 4, 8]
abbrev dktX3_box_1 : List UInt8 := dkwX3_box_1 ++ dktX3_box_2
def dkwX3_box_0 : List UInt8 := [42, 182, 0, 88, 42, 27, 4, 16, 8, 184, 0, 70, 154, 0, 7, 4, 167, 0, 4, 3, 4, 182, 0, 91]
abbrev dktX3_box_0 : List UInt8 := dkwX3_box_0 ++ dktX3_box_1
theorem dksX3_box_0 : cX3_box.data.toList.drop 0 = dktX3_box_0 := by decide +kernel
theorem dksX3_box_1 : cX3_box.data.toList.drop 24 = dktX3_box_1 := dk_seg dksX3_box_0 24 rfl rfl
theorem dksX3_box_2 : cX3_box.data.toList.drop 47 = dktX3_box_2 := dk_seg dksX3_box_1 23 rfl rfl
theorem dksX3_box_3 : cX3_box.data.toList.drop 71 = dktX3_box_3 := dk_seg dksX3_box_2 24 rfl rfl
theorem dksX3_box_4 : cX3_box.data.toList.drop 95 = dktX3_box_4 := dk_seg dksX3_box_3 24 rfl rfl
theorem dX3_box_0 : decode cX3_box 0 = .ok (.aload_n 0, 1) := dk_42 (dk_at dksX3_box_0 0 rfl rfl)
theorem dX3_box_1 : decode cX3_box 1 = .ok (.invokevirtual 88, 3) := dk_182 0 88 (dk_at dksX3_box_0 1 rfl rfl)
theorem dX3_box_4 : decode cX3_box 4 = .ok (.aload_n 0, 1) := dk_42 (dk_at dksX3_box_0 4 rfl rfl)
theorem dX3_box_5 : decode cX3_box 5 = .ok (.iload_n 1, 1) := dk_27 (dk_at dksX3_box_0 5 rfl rfl)
theorem dX3_box_6 : decode cX3_box 6 = .ok (.iconst 1, 1) := dk_4 (dk_at dksX3_box_0 6 rfl rfl)
theorem dX3_box_7 : decode cX3_box 7 = .ok (.bipush 8, 2) := dk_16 8 (dk_at dksX3_box_0 7 rfl rfl)
theorem dX3_box_9 : decode cX3_box 9 = .ok (.invokestatic 70, 3) := dk_184 0 70 (dk_at dksX3_box_0 9 rfl rfl)
theorem dX3_box_12 : decode cX3_box 12 = .ok (.ifCond .ne 7, 3) := dk_154 0 7 (dk_at dksX3_box_0 12 rfl rfl)
theorem dX3_box_15 : decode cX3_box 15 = .ok (.iconst 1, 1) := dk_4 (dk_at dksX3_box_0 15 rfl rfl)
theorem dX3_box_16 : decode cX3_box 16 = .ok (.goto 4, 3) := dk_167 0 4 (dk_at dksX3_box_0 16 rfl rfl)
theorem dX3_box_19 : decode cX3_box 19 = .ok (.iconst 0, 1) := dk_3 (dk_at dksX3_box_0 19 rfl rfl)
theorem dX3_box_20 : decode cX3_box 20 = .ok (.iconst 1, 1) := dk_4 (dk_at dksX3_box_0 20 rfl rfl)
theorem dX3_box_21 : decode cX3_box 21 = .ok (.invokevirtual 91, 3) := dk_182 0 91 (dk_at dksX3_box_0 21 rfl rfl)
theorem dX3_box_24 : decode cX3_box 24 = .ok (.ifCond .eq 5, 3) := dk_153 0 5 (dk_at dksX3_box_1 0 rfl rfl)
theorem dX3_box_27 : decode cX3_box 27 = .ok (.iconst 0, 1) := dk_3 (dk_at dksX3_box_1 3 rfl rfl)
theorem dX3_box_28 : decode cX3_box 28 = .ok (.ireturn, 1) := dk_172 (dk_at dksX3_box_1 4 rfl rfl)
theorem dX3_box_29 : decode cX3_box 29 = .ok (.aload_n 0, 1) := dk_42 (dk_at dksX3_box_1 5 rfl rfl)
theorem dX3_box_30 : decode cX3_box 30 = .ok (.aload_n 0, 1) := dk_42 (dk_at dksX3_box_1 6 rfl rfl)
theorem dX3_box_31 : decode cX3_box 31 = .ok (.getfield 9, 3) := dk_180 0 9 (dk_at dksX3_box_1 7 rfl rfl)
theorem dX3_box_34 : decode cX3_box 34 = .ok (.iconst 0, 1) := dk_3 (dk_at dksX3_box_1 10 rfl rfl)
theorem dX3_box_35 : decode cX3_box 35 = .ok (.iaload, 1) := dk_46 (dk_at dksX3_box_1 11 rfl rfl)
theorem dX3_box_36 : decode cX3_box 36 = .ok (.iconst 5, 1) := dk_8 (dk_at dksX3_box_1 12 rfl rfl)
theorem dX3_box_37 : decode cX3_box 37 = .ok (.if_icmp .ne 7, 3) := dk_160 0 7 (dk_at dksX3_box_1 13 rfl rfl)
theorem dX3_box_40 : decode cX3_box 40 = .ok (.iconst 1, 1) := dk_4 (dk_at dksX3_box_1 16 rfl rfl)
theorem dX3_box_41 : decode cX3_box 41 = .ok (.goto 4, 3) := dk_167 0 4 (dk_at dksX3_box_1 17 rfl rfl)
theorem dX3_box_44 : decode cX3_box 44 = .ok (.iconst 0, 1) := dk_3 (dk_at dksX3_box_1 20 rfl rfl)
theorem dX3_box_45 : decode cX3_box 45 = .ok (.iconst 1, 1) := dk_4 (dk_at dksX3_box_1 21 rfl rfl)
theorem dX3_box_46 : decode cX3_box 46 = .ok (.iconst 5, 1) := dk_8 (dk_at dksX3_box_1 22 rfl rfl)
theorem dX3_box_47 : decode cX3_box 47 = .ok (.invokevirtual 95, 3) := dk_182 0 95 (dk_at dksX3_box_2 0 rfl rfl)
theorem dX3_box_50 : decode cX3_box 50 = .ok (.ifCond .eq 10, 3) := dk_153 0 10 (dk_at dksX3_box_2 3 rfl rfl)
theorem dX3_box_53 : decode cX3_box 53 = .ok (.aload_n 0, 1) := dk_42 (dk_at dksX3_box_2 6 rfl rfl)
theorem dX3_box_54 : decode cX3_box 54 = .ok (.iconst 0, 1) := dk_3 (dk_at dksX3_box_2 7 rfl rfl)
theorem dX3_box_55 : decode cX3_box 55 = .ok (.iconst 2, 1) := dk_5 (dk_at dksX3_box_2 8 rfl rfl)
theorem dX3_box_56 : decode cX3_box 56 = .ok (.invokevirtual 99, 3) := dk_182 0 99 (dk_at dksX3_box_2 9 rfl rfl)
theorem dX3_box_59 : decode cX3_box 59 = .ok (.ireturn, 1) := dk_172 (dk_at dksX3_box_2 12 rfl rfl)
theorem dX3_box_60 : decode cX3_box 60 = .ok (.aload_n 0, 1) := dk_42 (dk_at dksX3_box_2 13 rfl rfl)
theorem dX3_box_61 : decode cX3_box 61 = .ok (.getfield 9, 3) := dk_180 0 9 (dk_at dksX3_box_2 14 rfl rfl)
theorem dX3_box_64 : decode cX3_box 64 = .ok (.bipush 6, 2) := dk_16 6 (dk_at dksX3_box_2 17 rfl rfl)
theorem dX3_box_66 : decode cX3_box 66 = .ok (.aload_n 0, 1) := dk_42 (dk_at dksX3_box_2 19 rfl rfl)
theorem dX3_box_67 : decode cX3_box 67 = .ok (.getfield 9, 3) := dk_180 0 9 (dk_at dksX3_box_2 20 rfl rfl)
theorem dX3_box_70 : decode cX3_box 70 = .ok (.iconst 0, 1) := dk_3 (dk_at dksX3_box_2 23 rfl rfl)
theorem dX3_box_71 : decode cX3_box 71 = .ok (.iaload, 1) := dk_46 (dk_at dksX3_box_3 0 rfl rfl)
theorem dX3_box_72 : decode cX3_box 72 = .ok (.iadd, 1) := dk_96 (dk_at dksX3_box_3 1 rfl rfl)
theorem dX3_box_73 : decode cX3_box 73 = .ok (.iload_n 1, 1) := dk_27 (dk_at dksX3_box_3 2 rfl rfl)
theorem dX3_box_74 : decode cX3_box 74 = .ok (.iastore, 1) := dk_79 (dk_at dksX3_box_3 3 rfl rfl)
theorem dX3_box_75 : decode cX3_box 75 = .ok (.aload_n 0, 1) := dk_42 (dk_at dksX3_box_3 4 rfl rfl)
theorem dX3_box_76 : decode cX3_box 76 = .ok (.getfield 9, 3) := dk_180 0 9 (dk_at dksX3_box_3 5 rfl rfl)
theorem dX3_box_79 : decode cX3_box 79 = .ok (.iconst 0, 1) := dk_3 (dk_at dksX3_box_3 8 rfl rfl)
theorem dX3_box_80 : decode cX3_box 80 = .ok (.dup2, 1) := dk_92 (dk_at dksX3_box_3 9 rfl rfl)
theorem dX3_box_81 : decode cX3_box 81 = .ok (.iaload, 1) := dk_46 (dk_at dksX3_box_3 10 rfl rfl)
theorem dX3_box_82 : decode cX3_box 82 = .ok (.iconst 1, 1) := dk_4 (dk_at dksX3_box_3 11 rfl rfl)
theorem dX3_box_83 : decode cX3_box 83 = .ok (.iadd, 1) := dk_96 (dk_at dksX3_box_3 12 rfl rfl)
theorem dX3_box_84 : decode cX3_box 84 = .ok (.iastore, 1) := dk_79 (dk_at dksX3_box_3 13 rfl rfl)
theorem dX3_box_85 : decode cX3_box 85 = .ok (.aload_n 0, 1) := dk_42 (dk_at dksX3_box_3 14 rfl rfl)
theorem dX3_box_86 : decode cX3_box 86 = .ok (.aload_n 0, 1) := dk_42 (dk_at dksX3_box_3 15 rfl rfl)
theorem dX3_box_87 : decode cX3_box 87 = .ok (.getfield 9, 3) := dk_180 0 9 (dk_at dksX3_box_3 16 rfl rfl)
theorem dX3_box_90 : decode cX3_box 90 = .ok (.iconst 0, 1) := dk_3 (dk_at dksX3_box_3 19 rfl rfl)
theorem dX3_box_91 : decode cX3_box 91 = .ok (.iaload, 1) := dk_46 (dk_at dksX3_box_3 20 rfl rfl)
theorem dX3_box_92 : decode cX3_box 92 = .ok (.iconst 1, 1) := dk_4 (dk_at dksX3_box_3 21 rfl rfl)
theorem dX3_box_93 : decode cX3_box 93 = .ok (.isub, 1) := dk_100 (dk_at dksX3_box_3 22 rfl rfl)
theorem dX3_box_94 : decode cX3_box 94 = .ok (.iconst 2, 1) := dk_5 (dk_at dksX3_box_3 23 rfl rfl)
theorem dX3_box_95 : decode cX3_box 95 = .ok (.invokevirtual 99, 3) := dk_182 0 99 (dk_at dksX3_box_4 0 rfl rfl)
theorem dX3_box_98 : decode cX3_box 98 = .ok (.ireturn, 1) := dk_172 (dk_at dksX3_box_4 3 rfl rfl)
abbrev cX3_keeps : ByteArray := prog_16_method_7_code
def yX3_keeps : MethodName := ⟨RX3, "keeps", "()V"⟩
def dkwX3_keeps_0 : List UInt8 := [42, 180, 0, 9, 3, 42, 180, 0, 13, 3, 184, 0, 44, 42, 3, 181, 0, 41, 177]
abbrev dktX3_keeps_0 : List UInt8 := dkwX3_keeps_0 ++ []
theorem dksX3_keeps_0 : cX3_keeps.data.toList.drop 0 = dktX3_keeps_0 := by decide +kernel
theorem dX3_keeps_0 : decode cX3_keeps 0 = .ok (.aload_n 0, 1) := dk_42 (dk_at dksX3_keeps_0 0 rfl rfl)
theorem dX3_keeps_1 : decode cX3_keeps 1 = .ok (.getfield 9, 3) := dk_180 0 9 (dk_at dksX3_keeps_0 1 rfl rfl)
theorem dX3_keeps_4 : decode cX3_keeps 4 = .ok (.iconst 0, 1) := dk_3 (dk_at dksX3_keeps_0 4 rfl rfl)
theorem dX3_keeps_5 : decode cX3_keeps 5 = .ok (.aload_n 0, 1) := dk_42 (dk_at dksX3_keeps_0 5 rfl rfl)
theorem dX3_keeps_6 : decode cX3_keeps 6 = .ok (.getfield 13, 3) := dk_180 0 13 (dk_at dksX3_keeps_0 6 rfl rfl)
theorem dX3_keeps_9 : decode cX3_keeps 9 = .ok (.iconst 0, 1) := dk_3 (dk_at dksX3_keeps_0 9 rfl rfl)
theorem dX3_keeps_10 : decode cX3_keeps 10 = .ok (.invokestatic 44, 3) := dk_184 0 44 (dk_at dksX3_keeps_0 10 rfl rfl)
theorem dX3_keeps_13 : decode cX3_keeps 13 = .ok (.aload_n 0, 1) := dk_42 (dk_at dksX3_keeps_0 13 rfl rfl)
theorem dX3_keeps_14 : decode cX3_keeps 14 = .ok (.iconst 0, 1) := dk_3 (dk_at dksX3_keeps_0 14 rfl rfl)
theorem dX3_keeps_15 : decode cX3_keeps 15 = .ok (.putfield 41, 3) := dk_181 0 41 (dk_at dksX3_keeps_0 15 rfl rfl)
theorem dX3_keeps_18 : decode cX3_keeps 18 = .ok (.return_, 1) := dk_177 (dk_at dksX3_keeps_0 18 rfl rfl)
abbrev cX3_copies : ByteArray := prog_16_method_6_code
def yX3_copies : MethodName := ⟨RX3, "copies", "([II[II)V"⟩
def dkwX3_copies_1 : List UInt8 := [132, 4, 1, 167, 255, 233, 177]
abbrev dktX3_copies_1 : List UInt8 := dkwX3_copies_1 ++ []
def dkwX3_copies_0 : List UInt8 := [3, 54, 4, 21, 4, 17, 0, 197, 162, 0, 21, 44, 29, 21, 4, 96, 42, 27, 21, 4, 96, 46, 79]
abbrev dktX3_copies_0 : List UInt8 := dkwX3_copies_0 ++ dktX3_copies_1
theorem dksX3_copies_0 : cX3_copies.data.toList.drop 0 = dktX3_copies_0 := by decide +kernel
theorem dksX3_copies_1 : cX3_copies.data.toList.drop 23 = dktX3_copies_1 := dk_seg dksX3_copies_0 23 rfl rfl
theorem dX3_copies_0 : decode cX3_copies 0 = .ok (.iconst 0, 1) := dk_3 (dk_at dksX3_copies_0 0 rfl rfl)
theorem dX3_copies_1 : decode cX3_copies 1 = .ok (.istore 4, 2) := dk_54 4 (dk_at dksX3_copies_0 1 rfl rfl)
theorem dX3_copies_3 : decode cX3_copies 3 = .ok (.iload 4, 2) := dk_21 4 (dk_at dksX3_copies_0 3 rfl rfl)
theorem dX3_copies_5 : decode cX3_copies 5 = .ok (.sipush 197, 3) := dk_17 0 197 (dk_at dksX3_copies_0 5 rfl rfl)
theorem dX3_copies_8 : decode cX3_copies 8 = .ok (.if_icmp .ge 21, 3) := dk_162 0 21 (dk_at dksX3_copies_0 8 rfl rfl)
theorem dX3_copies_11 : decode cX3_copies 11 = .ok (.aload_n 2, 1) := dk_44 (dk_at dksX3_copies_0 11 rfl rfl)
theorem dX3_copies_12 : decode cX3_copies 12 = .ok (.iload_n 3, 1) := dk_29 (dk_at dksX3_copies_0 12 rfl rfl)
theorem dX3_copies_13 : decode cX3_copies 13 = .ok (.iload 4, 2) := dk_21 4 (dk_at dksX3_copies_0 13 rfl rfl)
theorem dX3_copies_15 : decode cX3_copies 15 = .ok (.iadd, 1) := dk_96 (dk_at dksX3_copies_0 15 rfl rfl)
theorem dX3_copies_16 : decode cX3_copies 16 = .ok (.aload_n 0, 1) := dk_42 (dk_at dksX3_copies_0 16 rfl rfl)
theorem dX3_copies_17 : decode cX3_copies 17 = .ok (.iload_n 1, 1) := dk_27 (dk_at dksX3_copies_0 17 rfl rfl)
theorem dX3_copies_18 : decode cX3_copies 18 = .ok (.iload 4, 2) := dk_21 4 (dk_at dksX3_copies_0 18 rfl rfl)
theorem dX3_copies_20 : decode cX3_copies 20 = .ok (.iadd, 1) := dk_96 (dk_at dksX3_copies_0 20 rfl rfl)
theorem dX3_copies_21 : decode cX3_copies 21 = .ok (.iaload, 1) := dk_46 (dk_at dksX3_copies_0 21 rfl rfl)
theorem dX3_copies_22 : decode cX3_copies 22 = .ok (.iastore, 1) := dk_79 (dk_at dksX3_copies_0 22 rfl rfl)
theorem dX3_copies_23 : decode cX3_copies 23 = .ok (.iinc 4 1, 3) := dk_132 4 1 (dk_at dksX3_copies_1 0 rfl rfl)
theorem dX3_copies_26 : decode cX3_copies 26 = .ok (.goto (-23), 3) := dk_167 255 233 (dk_at dksX3_copies_1 3 rfl rfl)
theorem dX3_copies_29 : decode cX3_copies 29 = .ok (.return_, 1) := dk_177 (dk_at dksX3_copies_1 6 rfl rfl)
abbrev cX3_isIn : ByteArray := prog_16_method_3_code
def yX3_isIn : MethodName := ⟨RX3, "isIn", "(III)Z"⟩
def dkwX3_isIn_0 : List UInt8 := [26, 27, 161, 0, 12, 26, 28, 163, 0, 7, 4, 167, 0, 4, 3, 172]
abbrev dktX3_isIn_0 : List UInt8 := dkwX3_isIn_0 ++ []
theorem dksX3_isIn_0 : cX3_isIn.data.toList.drop 0 = dktX3_isIn_0 := by decide +kernel
theorem dX3_isIn_0 : decode cX3_isIn 0 = .ok (.iload_n 0, 1) := dk_26 (dk_at dksX3_isIn_0 0 rfl rfl)
theorem dX3_isIn_1 : decode cX3_isIn 1 = .ok (.iload_n 1, 1) := dk_27 (dk_at dksX3_isIn_0 1 rfl rfl)
theorem dX3_isIn_2 : decode cX3_isIn 2 = .ok (.if_icmp .lt 12, 3) := dk_161 0 12 (dk_at dksX3_isIn_0 2 rfl rfl)
theorem dX3_isIn_5 : decode cX3_isIn 5 = .ok (.iload_n 0, 1) := dk_26 (dk_at dksX3_isIn_0 5 rfl rfl)
theorem dX3_isIn_6 : decode cX3_isIn 6 = .ok (.iload_n 2, 1) := dk_28 (dk_at dksX3_isIn_0 6 rfl rfl)
theorem dX3_isIn_7 : decode cX3_isIn 7 = .ok (.if_icmp .gt 7, 3) := dk_163 0 7 (dk_at dksX3_isIn_0 7 rfl rfl)
theorem dX3_isIn_10 : decode cX3_isIn 10 = .ok (.iconst 1, 1) := dk_4 (dk_at dksX3_isIn_0 10 rfl rfl)
theorem dX3_isIn_11 : decode cX3_isIn 11 = .ok (.goto 4, 3) := dk_167 0 4 (dk_at dksX3_isIn_0 11 rfl rfl)
theorem dX3_isIn_14 : decode cX3_isIn 14 = .ok (.iconst 0, 1) := dk_3 (dk_at dksX3_isIn_0 14 rfl rfl)
theorem dX3_isIn_15 : decode cX3_isIn 15 = .ok (.ireturn, 1) := dk_172 (dk_at dksX3_isIn_0 15 rfl rfl)
abbrev cX3_isThrown : ByteArray := prog_16_method_10_code
def yX3_isThrown : MethodName := ⟨RX3, "isThrown", "(ZI)Z"⟩
def dkwX3_isThrown_0 : List UInt8 := [42, 27, 153, 0, 7, 28, 167, 0, 4, 3, 181, 0, 41, 27, 172]
abbrev dktX3_isThrown_0 : List UInt8 := dkwX3_isThrown_0 ++ []
theorem dksX3_isThrown_0 : cX3_isThrown.data.toList.drop 0 = dktX3_isThrown_0 := by decide +kernel
theorem dX3_isThrown_0 : decode cX3_isThrown 0 = .ok (.aload_n 0, 1) := dk_42 (dk_at dksX3_isThrown_0 0 rfl rfl)
theorem dX3_isThrown_1 : decode cX3_isThrown 1 = .ok (.iload_n 1, 1) := dk_27 (dk_at dksX3_isThrown_0 1 rfl rfl)
theorem dX3_isThrown_2 : decode cX3_isThrown 2 = .ok (.ifCond .eq 7, 3) := dk_153 0 7 (dk_at dksX3_isThrown_0 2 rfl rfl)
theorem dX3_isThrown_5 : decode cX3_isThrown 5 = .ok (.iload_n 2, 1) := dk_28 (dk_at dksX3_isThrown_0 5 rfl rfl)
theorem dX3_isThrown_6 : decode cX3_isThrown 6 = .ok (.goto 4, 3) := dk_167 0 4 (dk_at dksX3_isThrown_0 6 rfl rfl)
theorem dX3_isThrown_9 : decode cX3_isThrown 9 = .ok (.iconst 0, 1) := dk_3 (dk_at dksX3_isThrown_0 9 rfl rfl)
theorem dX3_isThrown_10 : decode cX3_isThrown 10 = .ok (.putfield 41, 3) := dk_181 0 41 (dk_at dksX3_isThrown_0 10 rfl rfl)
theorem dX3_isThrown_13 : decode cX3_isThrown 13 = .ok (.iload_n 1, 1) := dk_27 (dk_at dksX3_isThrown_0 13 rfl rfl)
theorem dX3_isThrown_14 : decode cX3_isThrown 14 = .ok (.ireturn, 1) := dk_172 (dk_at dksX3_isThrown_0 14 rfl rfl)
abbrev cX3_isRefused : ByteArray := prog_16_method_11_code
def yX3_isRefused : MethodName := ⟨RX3, "isRefused", "(ZII)Z"⟩
def dkwX3_isRefused_1 : List UInt8 := [181, 0, 41, 27, 172]
abbrev dktX3_isRefused_1 : List UInt8 := dkwX3_isRefused_1 ++ []
def dkwX3_isRefused_0 : List UInt8 := [27, 153, 0, 24, 42, 28, 181, 0, 54, 42, 29, 181, 0, 57, 42, 3, 181, 0, 60, 42, 16, 9]
abbrev dktX3_isRefused_0 : List UInt8 := dkwX3_isRefused_0 ++ dktX3_isRefused_1
theorem dksX3_isRefused_0 : cX3_isRefused.data.toList.drop 0 = dktX3_isRefused_0 := by decide +kernel
theorem dksX3_isRefused_1 : cX3_isRefused.data.toList.drop 22 = dktX3_isRefused_1 := dk_seg dksX3_isRefused_0 22 rfl rfl
theorem dX3_isRefused_0 : decode cX3_isRefused 0 = .ok (.iload_n 1, 1) := dk_27 (dk_at dksX3_isRefused_0 0 rfl rfl)
theorem dX3_isRefused_1 : decode cX3_isRefused 1 = .ok (.ifCond .eq 24, 3) := dk_153 0 24 (dk_at dksX3_isRefused_0 1 rfl rfl)
theorem dX3_isRefused_4 : decode cX3_isRefused 4 = .ok (.aload_n 0, 1) := dk_42 (dk_at dksX3_isRefused_0 4 rfl rfl)
theorem dX3_isRefused_5 : decode cX3_isRefused 5 = .ok (.iload_n 2, 1) := dk_28 (dk_at dksX3_isRefused_0 5 rfl rfl)
theorem dX3_isRefused_6 : decode cX3_isRefused 6 = .ok (.putfield 54, 3) := dk_181 0 54 (dk_at dksX3_isRefused_0 6 rfl rfl)
theorem dX3_isRefused_9 : decode cX3_isRefused 9 = .ok (.aload_n 0, 1) := dk_42 (dk_at dksX3_isRefused_0 9 rfl rfl)
theorem dX3_isRefused_10 : decode cX3_isRefused 10 = .ok (.iload_n 3, 1) := dk_29 (dk_at dksX3_isRefused_0 10 rfl rfl)
theorem dX3_isRefused_11 : decode cX3_isRefused 11 = .ok (.putfield 57, 3) := dk_181 0 57 (dk_at dksX3_isRefused_0 11 rfl rfl)
theorem dX3_isRefused_14 : decode cX3_isRefused 14 = .ok (.aload_n 0, 1) := dk_42 (dk_at dksX3_isRefused_0 14 rfl rfl)
theorem dX3_isRefused_15 : decode cX3_isRefused 15 = .ok (.iconst 0, 1) := dk_3 (dk_at dksX3_isRefused_0 15 rfl rfl)
theorem dX3_isRefused_16 : decode cX3_isRefused 16 = .ok (.putfield 60, 3) := dk_181 0 60 (dk_at dksX3_isRefused_0 16 rfl rfl)
theorem dX3_isRefused_19 : decode cX3_isRefused 19 = .ok (.aload_n 0, 1) := dk_42 (dk_at dksX3_isRefused_0 19 rfl rfl)
theorem dX3_isRefused_20 : decode cX3_isRefused 20 = .ok (.bipush 9, 2) := dk_16 9 (dk_at dksX3_isRefused_0 20 rfl rfl)
theorem dX3_isRefused_22 : decode cX3_isRefused 22 = .ok (.putfield 41, 3) := dk_181 0 41 (dk_at dksX3_isRefused_1 0 rfl rfl)
theorem dX3_isRefused_25 : decode cX3_isRefused 25 = .ok (.iload_n 1, 1) := dk_27 (dk_at dksX3_isRefused_1 3 rfl rfl)
theorem dX3_isRefused_26 : decode cX3_isRefused 26 = .ok (.ireturn, 1) := dk_172 (dk_at dksX3_isRefused_1 4 rfl rfl)
abbrev cX3_ends : ByteArray := prog_16_method_9_code
def yX3_ends : MethodName := ⟨RX3, "ends", "(II)I"⟩
def dkwX3_ends_1 : List UInt8 := [180, 0, 41, 181, 0, 41, 3, 172, 42, 182, 0, 51, 27, 172]
abbrev dktX3_ends_1 : List UInt8 := dkwX3_ends_1 ++ []
def dkwX3_ends_0 : List UInt8 := [42, 180, 0, 41, 153, 0, 26, 42, 42, 180, 0, 41, 16, 9, 160, 0, 7, 28, 167, 0, 7, 42]
abbrev dktX3_ends_0 : List UInt8 := dkwX3_ends_0 ++ dktX3_ends_1
theorem dksX3_ends_0 : cX3_ends.data.toList.drop 0 = dktX3_ends_0 := by decide +kernel
theorem dksX3_ends_1 : cX3_ends.data.toList.drop 22 = dktX3_ends_1 := dk_seg dksX3_ends_0 22 rfl rfl
theorem dX3_ends_0 : decode cX3_ends 0 = .ok (.aload_n 0, 1) := dk_42 (dk_at dksX3_ends_0 0 rfl rfl)
theorem dX3_ends_1 : decode cX3_ends 1 = .ok (.getfield 41, 3) := dk_180 0 41 (dk_at dksX3_ends_0 1 rfl rfl)
theorem dX3_ends_4 : decode cX3_ends 4 = .ok (.ifCond .eq 26, 3) := dk_153 0 26 (dk_at dksX3_ends_0 4 rfl rfl)
theorem dX3_ends_7 : decode cX3_ends 7 = .ok (.aload_n 0, 1) := dk_42 (dk_at dksX3_ends_0 7 rfl rfl)
theorem dX3_ends_8 : decode cX3_ends 8 = .ok (.aload_n 0, 1) := dk_42 (dk_at dksX3_ends_0 8 rfl rfl)
theorem dX3_ends_9 : decode cX3_ends 9 = .ok (.getfield 41, 3) := dk_180 0 41 (dk_at dksX3_ends_0 9 rfl rfl)
theorem dX3_ends_12 : decode cX3_ends 12 = .ok (.bipush 9, 2) := dk_16 9 (dk_at dksX3_ends_0 12 rfl rfl)
theorem dX3_ends_14 : decode cX3_ends 14 = .ok (.if_icmp .ne 7, 3) := dk_160 0 7 (dk_at dksX3_ends_0 14 rfl rfl)
theorem dX3_ends_17 : decode cX3_ends 17 = .ok (.iload_n 2, 1) := dk_28 (dk_at dksX3_ends_0 17 rfl rfl)
theorem dX3_ends_18 : decode cX3_ends 18 = .ok (.goto 7, 3) := dk_167 0 7 (dk_at dksX3_ends_0 18 rfl rfl)
theorem dX3_ends_21 : decode cX3_ends 21 = .ok (.aload_n 0, 1) := dk_42 (dk_at dksX3_ends_0 21 rfl rfl)
theorem dX3_ends_22 : decode cX3_ends 22 = .ok (.getfield 41, 3) := dk_180 0 41 (dk_at dksX3_ends_1 0 rfl rfl)
theorem dX3_ends_25 : decode cX3_ends 25 = .ok (.putfield 41, 3) := dk_181 0 41 (dk_at dksX3_ends_1 3 rfl rfl)
theorem dX3_ends_28 : decode cX3_ends 28 = .ok (.iconst 0, 1) := dk_3 (dk_at dksX3_ends_1 6 rfl rfl)
theorem dX3_ends_29 : decode cX3_ends 29 = .ok (.ireturn, 1) := dk_172 (dk_at dksX3_ends_1 7 rfl rfl)
theorem dX3_ends_30 : decode cX3_ends 30 = .ok (.aload_n 0, 1) := dk_42 (dk_at dksX3_ends_1 8 rfl rfl)
theorem dX3_ends_31 : decode cX3_ends 31 = .ok (.invokevirtual 51, 3) := dk_182 0 51 (dk_at dksX3_ends_1 9 rfl rfl)
theorem dX3_ends_34 : decode cX3_ends 34 = .ok (.iload_n 1, 1) := dk_27 (dk_at dksX3_ends_1 12 rfl rfl)
theorem dX3_ends_35 : decode cX3_ends 35 = .ok (.ireturn, 1) := dk_172 (dk_at dksX3_ends_1 13 rfl rfl)
abbrev cX3_changed : ByteArray := prog_16_method_8_code
def yX3_changed : MethodName := ⟨RX3, "changed", "()V"⟩
def dkwX3_changed_3 : List UInt8 := [104, 184, 0, 44, 42, 89, 180, 0, 48, 4, 96, 181, 0, 48, 177]
abbrev dktX3_changed_3 : List UInt8 := dkwX3_changed_3 ++ []
def dkwX3_changed_2 : List UInt8 := [180, 0, 48, 4, 100, 181, 0, 48, 42, 180, 0, 13, 3, 42, 180, 0, 19, 17, 0, 197, 42, 180, 0, 48]
abbrev dktX3_changed_2 : List UInt8 := dkwX3_changed_2 ++ dktX3_changed_3
def dkwX3_changed_1 : List UInt8 := [27, 104, 42, 180, 0, 19, 17, 0, 197, 27, 4, 100, 104, 184, 0, 44, 132, 1, 1, 167, 255, 224, 42, 89]
abbrev dktX3_changed_1 : List UInt8 := dkwX3_changed_1 ++ dktX3_changed_2
def dkwX3_changed_0 : List UInt8 := [42, 180, 0, 48, 16, 8, 160, 0, 50, 4, 60, 27, 16, 8, 162, 0, 32, 42, 180, 0, 19, 17, 0, 197]
abbrev dktX3_changed_0 : List UInt8 := dkwX3_changed_0 ++ dktX3_changed_1
theorem dksX3_changed_0 : cX3_changed.data.toList.drop 0 = dktX3_changed_0 := by decide +kernel
theorem dksX3_changed_1 : cX3_changed.data.toList.drop 24 = dktX3_changed_1 := dk_seg dksX3_changed_0 24 rfl rfl
theorem dksX3_changed_2 : cX3_changed.data.toList.drop 48 = dktX3_changed_2 := dk_seg dksX3_changed_1 24 rfl rfl
theorem dksX3_changed_3 : cX3_changed.data.toList.drop 72 = dktX3_changed_3 := dk_seg dksX3_changed_2 24 rfl rfl
theorem dX3_changed_0 : decode cX3_changed 0 = .ok (.aload_n 0, 1) := dk_42 (dk_at dksX3_changed_0 0 rfl rfl)
theorem dX3_changed_1 : decode cX3_changed 1 = .ok (.getfield 48, 3) := dk_180 0 48 (dk_at dksX3_changed_0 1 rfl rfl)
theorem dX3_changed_4 : decode cX3_changed 4 = .ok (.bipush 8, 2) := dk_16 8 (dk_at dksX3_changed_0 4 rfl rfl)
theorem dX3_changed_6 : decode cX3_changed 6 = .ok (.if_icmp .ne 50, 3) := dk_160 0 50 (dk_at dksX3_changed_0 6 rfl rfl)
theorem dX3_changed_9 : decode cX3_changed 9 = .ok (.iconst 1, 1) := dk_4 (dk_at dksX3_changed_0 9 rfl rfl)
theorem dX3_changed_10 : decode cX3_changed 10 = .ok (.istore_n 1, 1) := dk_60 (dk_at dksX3_changed_0 10 rfl rfl)
theorem dX3_changed_11 : decode cX3_changed 11 = .ok (.iload_n 1, 1) := dk_27 (dk_at dksX3_changed_0 11 rfl rfl)
theorem dX3_changed_12 : decode cX3_changed 12 = .ok (.bipush 8, 2) := dk_16 8 (dk_at dksX3_changed_0 12 rfl rfl)
theorem dX3_changed_14 : decode cX3_changed 14 = .ok (.if_icmp .ge 32, 3) := dk_162 0 32 (dk_at dksX3_changed_0 14 rfl rfl)
theorem dX3_changed_17 : decode cX3_changed 17 = .ok (.aload_n 0, 1) := dk_42 (dk_at dksX3_changed_0 17 rfl rfl)
theorem dX3_changed_18 : decode cX3_changed 18 = .ok (.getfield 19, 3) := dk_180 0 19 (dk_at dksX3_changed_0 18 rfl rfl)
theorem dX3_changed_21 : decode cX3_changed 21 = .ok (.sipush 197, 3) := dk_17 0 197 (dk_at dksX3_changed_0 21 rfl rfl)
theorem dX3_changed_24 : decode cX3_changed 24 = .ok (.iload_n 1, 1) := dk_27 (dk_at dksX3_changed_1 0 rfl rfl)
theorem dX3_changed_25 : decode cX3_changed 25 = .ok (.imul, 1) := dk_104 (dk_at dksX3_changed_1 1 rfl rfl)
theorem dX3_changed_26 : decode cX3_changed 26 = .ok (.aload_n 0, 1) := dk_42 (dk_at dksX3_changed_1 2 rfl rfl)
theorem dX3_changed_27 : decode cX3_changed 27 = .ok (.getfield 19, 3) := dk_180 0 19 (dk_at dksX3_changed_1 3 rfl rfl)
theorem dX3_changed_30 : decode cX3_changed 30 = .ok (.sipush 197, 3) := dk_17 0 197 (dk_at dksX3_changed_1 6 rfl rfl)
theorem dX3_changed_33 : decode cX3_changed 33 = .ok (.iload_n 1, 1) := dk_27 (dk_at dksX3_changed_1 9 rfl rfl)
theorem dX3_changed_34 : decode cX3_changed 34 = .ok (.iconst 1, 1) := dk_4 (dk_at dksX3_changed_1 10 rfl rfl)
theorem dX3_changed_35 : decode cX3_changed 35 = .ok (.isub, 1) := dk_100 (dk_at dksX3_changed_1 11 rfl rfl)
theorem dX3_changed_36 : decode cX3_changed 36 = .ok (.imul, 1) := dk_104 (dk_at dksX3_changed_1 12 rfl rfl)
theorem dX3_changed_37 : decode cX3_changed 37 = .ok (.invokestatic 44, 3) := dk_184 0 44 (dk_at dksX3_changed_1 13 rfl rfl)
theorem dX3_changed_40 : decode cX3_changed 40 = .ok (.iinc 1 1, 3) := dk_132 1 1 (dk_at dksX3_changed_1 16 rfl rfl)
theorem dX3_changed_43 : decode cX3_changed 43 = .ok (.goto (-32), 3) := dk_167 255 224 (dk_at dksX3_changed_1 19 rfl rfl)
theorem dX3_changed_46 : decode cX3_changed 46 = .ok (.aload_n 0, 1) := dk_42 (dk_at dksX3_changed_1 22 rfl rfl)
theorem dX3_changed_47 : decode cX3_changed 47 = .ok (.dup, 1) := dk_89 (dk_at dksX3_changed_1 23 rfl rfl)
theorem dX3_changed_48 : decode cX3_changed 48 = .ok (.getfield 48, 3) := dk_180 0 48 (dk_at dksX3_changed_2 0 rfl rfl)
theorem dX3_changed_51 : decode cX3_changed 51 = .ok (.iconst 1, 1) := dk_4 (dk_at dksX3_changed_2 3 rfl rfl)
theorem dX3_changed_52 : decode cX3_changed 52 = .ok (.isub, 1) := dk_100 (dk_at dksX3_changed_2 4 rfl rfl)
theorem dX3_changed_53 : decode cX3_changed 53 = .ok (.putfield 48, 3) := dk_181 0 48 (dk_at dksX3_changed_2 5 rfl rfl)
theorem dX3_changed_56 : decode cX3_changed 56 = .ok (.aload_n 0, 1) := dk_42 (dk_at dksX3_changed_2 8 rfl rfl)
theorem dX3_changed_57 : decode cX3_changed 57 = .ok (.getfield 13, 3) := dk_180 0 13 (dk_at dksX3_changed_2 9 rfl rfl)
theorem dX3_changed_60 : decode cX3_changed 60 = .ok (.iconst 0, 1) := dk_3 (dk_at dksX3_changed_2 12 rfl rfl)
theorem dX3_changed_61 : decode cX3_changed 61 = .ok (.aload_n 0, 1) := dk_42 (dk_at dksX3_changed_2 13 rfl rfl)
theorem dX3_changed_62 : decode cX3_changed 62 = .ok (.getfield 19, 3) := dk_180 0 19 (dk_at dksX3_changed_2 14 rfl rfl)
theorem dX3_changed_65 : decode cX3_changed 65 = .ok (.sipush 197, 3) := dk_17 0 197 (dk_at dksX3_changed_2 17 rfl rfl)
theorem dX3_changed_68 : decode cX3_changed 68 = .ok (.aload_n 0, 1) := dk_42 (dk_at dksX3_changed_2 20 rfl rfl)
theorem dX3_changed_69 : decode cX3_changed 69 = .ok (.getfield 48, 3) := dk_180 0 48 (dk_at dksX3_changed_2 21 rfl rfl)
theorem dX3_changed_72 : decode cX3_changed 72 = .ok (.imul, 1) := dk_104 (dk_at dksX3_changed_3 0 rfl rfl)
theorem dX3_changed_73 : decode cX3_changed 73 = .ok (.invokestatic 44, 3) := dk_184 0 44 (dk_at dksX3_changed_3 1 rfl rfl)
theorem dX3_changed_76 : decode cX3_changed 76 = .ok (.aload_n 0, 1) := dk_42 (dk_at dksX3_changed_3 4 rfl rfl)
theorem dX3_changed_77 : decode cX3_changed 77 = .ok (.dup, 1) := dk_89 (dk_at dksX3_changed_3 5 rfl rfl)
theorem dX3_changed_78 : decode cX3_changed 78 = .ok (.getfield 48, 3) := dk_180 0 48 (dk_at dksX3_changed_3 6 rfl rfl)
theorem dX3_changed_81 : decode cX3_changed 81 = .ok (.iconst 1, 1) := dk_4 (dk_at dksX3_changed_3 9 rfl rfl)
theorem dX3_changed_82 : decode cX3_changed 82 = .ok (.iadd, 1) := dk_96 (dk_at dksX3_changed_3 10 rfl rfl)
theorem dX3_changed_83 : decode cX3_changed 83 = .ok (.putfield 48, 3) := dk_181 0 48 (dk_at dksX3_changed_3 11 rfl rfl)
theorem dX3_changed_86 : decode cX3_changed 86 = .ok (.return_, 1) := dk_177 (dk_at dksX3_changed_3 14 rfl rfl)
abbrev cX3_let : ByteArray := prog_16_method_28_code
def yX3_let : MethodName := ⟨RX3, "let", "(IIII)I"⟩
def dkwX3_let_2 : List UInt8 := [153, 0, 5, 3, 172, 42, 42, 27, 28, 29, 21, 4, 182, 0, 115, 6, 182, 0, 99, 172]
abbrev dktX3_let_2 : List UInt8 := dkwX3_let_2 ++ []
def dkwX3_let_1 : List UInt8 := [154, 0, 26, 42, 28, 29, 21, 4, 184, 0, 112, 154, 0, 7, 4, 167, 0, 4, 3, 5, 182, 0, 91]
abbrev dktX3_let_1 : List UInt8 := dkwX3_let_1 ++ dktX3_let_2
def dkwX3_let_0 : List UInt8 := [42, 182, 0, 88, 42, 42, 27, 182, 0, 109, 154, 0, 7, 4, 167, 0, 4, 3, 4, 182, 0, 91]
abbrev dktX3_let_0 : List UInt8 := dkwX3_let_0 ++ dktX3_let_1
theorem dksX3_let_0 : cX3_let.data.toList.drop 0 = dktX3_let_0 := by decide +kernel
theorem dksX3_let_1 : cX3_let.data.toList.drop 22 = dktX3_let_1 := dk_seg dksX3_let_0 22 rfl rfl
theorem dksX3_let_2 : cX3_let.data.toList.drop 45 = dktX3_let_2 := dk_seg dksX3_let_1 23 rfl rfl
theorem dX3_let_0 : decode cX3_let 0 = .ok (.aload_n 0, 1) := dk_42 (dk_at dksX3_let_0 0 rfl rfl)
theorem dX3_let_1 : decode cX3_let 1 = .ok (.invokevirtual 88, 3) := dk_182 0 88 (dk_at dksX3_let_0 1 rfl rfl)
theorem dX3_let_4 : decode cX3_let 4 = .ok (.aload_n 0, 1) := dk_42 (dk_at dksX3_let_0 4 rfl rfl)
theorem dX3_let_5 : decode cX3_let 5 = .ok (.aload_n 0, 1) := dk_42 (dk_at dksX3_let_0 5 rfl rfl)
theorem dX3_let_6 : decode cX3_let 6 = .ok (.iload_n 1, 1) := dk_27 (dk_at dksX3_let_0 6 rfl rfl)
theorem dX3_let_7 : decode cX3_let 7 = .ok (.invokevirtual 109, 3) := dk_182 0 109 (dk_at dksX3_let_0 7 rfl rfl)
theorem dX3_let_10 : decode cX3_let 10 = .ok (.ifCond .ne 7, 3) := dk_154 0 7 (dk_at dksX3_let_0 10 rfl rfl)
theorem dX3_let_13 : decode cX3_let 13 = .ok (.iconst 1, 1) := dk_4 (dk_at dksX3_let_0 13 rfl rfl)
theorem dX3_let_14 : decode cX3_let 14 = .ok (.goto 4, 3) := dk_167 0 4 (dk_at dksX3_let_0 14 rfl rfl)
theorem dX3_let_17 : decode cX3_let 17 = .ok (.iconst 0, 1) := dk_3 (dk_at dksX3_let_0 17 rfl rfl)
theorem dX3_let_18 : decode cX3_let 18 = .ok (.iconst 1, 1) := dk_4 (dk_at dksX3_let_0 18 rfl rfl)
theorem dX3_let_19 : decode cX3_let 19 = .ok (.invokevirtual 91, 3) := dk_182 0 91 (dk_at dksX3_let_0 19 rfl rfl)
theorem dX3_let_22 : decode cX3_let 22 = .ok (.ifCond .ne 26, 3) := dk_154 0 26 (dk_at dksX3_let_1 0 rfl rfl)
theorem dX3_let_25 : decode cX3_let 25 = .ok (.aload_n 0, 1) := dk_42 (dk_at dksX3_let_1 3 rfl rfl)
theorem dX3_let_26 : decode cX3_let 26 = .ok (.iload_n 2, 1) := dk_28 (dk_at dksX3_let_1 4 rfl rfl)
theorem dX3_let_27 : decode cX3_let 27 = .ok (.iload_n 3, 1) := dk_29 (dk_at dksX3_let_1 5 rfl rfl)
theorem dX3_let_28 : decode cX3_let 28 = .ok (.iload 4, 2) := dk_21 4 (dk_at dksX3_let_1 6 rfl rfl)
theorem dX3_let_30 : decode cX3_let 30 = .ok (.invokestatic 112, 3) := dk_184 0 112 (dk_at dksX3_let_1 8 rfl rfl)
theorem dX3_let_33 : decode cX3_let 33 = .ok (.ifCond .ne 7, 3) := dk_154 0 7 (dk_at dksX3_let_1 11 rfl rfl)
theorem dX3_let_36 : decode cX3_let 36 = .ok (.iconst 1, 1) := dk_4 (dk_at dksX3_let_1 14 rfl rfl)
theorem dX3_let_37 : decode cX3_let 37 = .ok (.goto 4, 3) := dk_167 0 4 (dk_at dksX3_let_1 15 rfl rfl)
theorem dX3_let_40 : decode cX3_let 40 = .ok (.iconst 0, 1) := dk_3 (dk_at dksX3_let_1 18 rfl rfl)
theorem dX3_let_41 : decode cX3_let 41 = .ok (.iconst 2, 1) := dk_5 (dk_at dksX3_let_1 19 rfl rfl)
theorem dX3_let_42 : decode cX3_let 42 = .ok (.invokevirtual 91, 3) := dk_182 0 91 (dk_at dksX3_let_1 20 rfl rfl)
theorem dX3_let_45 : decode cX3_let 45 = .ok (.ifCond .eq 5, 3) := dk_153 0 5 (dk_at dksX3_let_2 0 rfl rfl)
theorem dX3_let_48 : decode cX3_let 48 = .ok (.iconst 0, 1) := dk_3 (dk_at dksX3_let_2 3 rfl rfl)
theorem dX3_let_49 : decode cX3_let 49 = .ok (.ireturn, 1) := dk_172 (dk_at dksX3_let_2 4 rfl rfl)
theorem dX3_let_50 : decode cX3_let 50 = .ok (.aload_n 0, 1) := dk_42 (dk_at dksX3_let_2 5 rfl rfl)
theorem dX3_let_51 : decode cX3_let 51 = .ok (.aload_n 0, 1) := dk_42 (dk_at dksX3_let_2 6 rfl rfl)
theorem dX3_let_52 : decode cX3_let 52 = .ok (.iload_n 1, 1) := dk_27 (dk_at dksX3_let_2 7 rfl rfl)
theorem dX3_let_53 : decode cX3_let 53 = .ok (.iload_n 2, 1) := dk_28 (dk_at dksX3_let_2 8 rfl rfl)
theorem dX3_let_54 : decode cX3_let 54 = .ok (.iload_n 3, 1) := dk_29 (dk_at dksX3_let_2 9 rfl rfl)
theorem dX3_let_55 : decode cX3_let 55 = .ok (.iload 4, 2) := dk_21 4 (dk_at dksX3_let_2 10 rfl rfl)
theorem dX3_let_57 : decode cX3_let 57 = .ok (.invokevirtual 115, 3) := dk_182 0 115 (dk_at dksX3_let_2 12 rfl rfl)
theorem dX3_let_60 : decode cX3_let 60 = .ok (.iconst 3, 1) := dk_6 (dk_at dksX3_let_2 15 rfl rfl)
theorem dX3_let_61 : decode cX3_let 61 = .ok (.invokevirtual 99, 3) := dk_182 0 99 (dk_at dksX3_let_2 16 rfl rfl)
theorem dX3_let_64 : decode cX3_let 64 = .ok (.ireturn, 1) := dk_172 (dk_at dksX3_let_2 19 rfl rfl)
abbrev cX3_isBox : ByteArray := prog_16_method_16_code
def yX3_isBox : MethodName := ⟨RX3, "isBox", "(I)Z"⟩
def dkwX3_isBox_0 : List UInt8 := [27, 3, 42, 180, 0, 9, 3, 46, 4, 100, 184, 0, 70, 172]
abbrev dktX3_isBox_0 : List UInt8 := dkwX3_isBox_0 ++ []
theorem dksX3_isBox_0 : cX3_isBox.data.toList.drop 0 = dktX3_isBox_0 := by decide +kernel
theorem dX3_isBox_0 : decode cX3_isBox 0 = .ok (.iload_n 1, 1) := dk_27 (dk_at dksX3_isBox_0 0 rfl rfl)
theorem dX3_isBox_1 : decode cX3_isBox 1 = .ok (.iconst 0, 1) := dk_3 (dk_at dksX3_isBox_0 1 rfl rfl)
theorem dX3_isBox_2 : decode cX3_isBox 2 = .ok (.aload_n 0, 1) := dk_42 (dk_at dksX3_isBox_0 2 rfl rfl)
theorem dX3_isBox_3 : decode cX3_isBox 3 = .ok (.getfield 9, 3) := dk_180 0 9 (dk_at dksX3_isBox_0 3 rfl rfl)
theorem dX3_isBox_6 : decode cX3_isBox 6 = .ok (.iconst 0, 1) := dk_3 (dk_at dksX3_isBox_0 6 rfl rfl)
theorem dX3_isBox_7 : decode cX3_isBox 7 = .ok (.iaload, 1) := dk_46 (dk_at dksX3_isBox_0 7 rfl rfl)
theorem dX3_isBox_8 : decode cX3_isBox 8 = .ok (.iconst 1, 1) := dk_4 (dk_at dksX3_isBox_0 8 rfl rfl)
theorem dX3_isBox_9 : decode cX3_isBox 9 = .ok (.isub, 1) := dk_100 (dk_at dksX3_isBox_0 9 rfl rfl)
theorem dX3_isBox_10 : decode cX3_isBox 10 = .ok (.invokestatic 70, 3) := dk_184 0 70 (dk_at dksX3_isBox_0 10 rfl rfl)
theorem dX3_isBox_13 : decode cX3_isBox 13 = .ok (.ireturn, 1) := dk_172 (dk_at dksX3_isBox_0 13 rfl rfl)
abbrev cX3_isFor : ByteArray := prog_16_method_20_code
def yX3_isFor : MethodName := ⟨RX3, "isFor", "(III)Z"⟩
def dkwX3_isFor_1 : List UInt8 := [184, 0, 70, 153, 0, 7, 4, 167, 0, 4, 3, 172]
abbrev dktX3_isFor_1 : List UInt8 := dkwX3_isFor_1 ++ []
def dkwX3_isFor_0 : List UInt8 := [26, 4, 16, 8, 184, 0, 70, 153, 0, 27, 27, 184, 0, 74, 153, 0, 20, 28, 27, 4, 96, 17, 2, 88]
abbrev dktX3_isFor_0 : List UInt8 := dkwX3_isFor_0 ++ dktX3_isFor_1
theorem dksX3_isFor_0 : cX3_isFor.data.toList.drop 0 = dktX3_isFor_0 := by decide +kernel
theorem dksX3_isFor_1 : cX3_isFor.data.toList.drop 24 = dktX3_isFor_1 := dk_seg dksX3_isFor_0 24 rfl rfl
theorem dX3_isFor_0 : decode cX3_isFor 0 = .ok (.iload_n 0, 1) := dk_26 (dk_at dksX3_isFor_0 0 rfl rfl)
theorem dX3_isFor_1 : decode cX3_isFor 1 = .ok (.iconst 1, 1) := dk_4 (dk_at dksX3_isFor_0 1 rfl rfl)
theorem dX3_isFor_2 : decode cX3_isFor 2 = .ok (.bipush 8, 2) := dk_16 8 (dk_at dksX3_isFor_0 2 rfl rfl)
theorem dX3_isFor_4 : decode cX3_isFor 4 = .ok (.invokestatic 70, 3) := dk_184 0 70 (dk_at dksX3_isFor_0 4 rfl rfl)
theorem dX3_isFor_7 : decode cX3_isFor 7 = .ok (.ifCond .eq 27, 3) := dk_153 0 27 (dk_at dksX3_isFor_0 7 rfl rfl)
theorem dX3_isFor_10 : decode cX3_isFor 10 = .ok (.iload_n 1, 1) := dk_27 (dk_at dksX3_isFor_0 10 rfl rfl)
theorem dX3_isFor_11 : decode cX3_isFor 11 = .ok (.invokestatic 74, 3) := dk_184 0 74 (dk_at dksX3_isFor_0 11 rfl rfl)
theorem dX3_isFor_14 : decode cX3_isFor 14 = .ok (.ifCond .eq 20, 3) := dk_153 0 20 (dk_at dksX3_isFor_0 14 rfl rfl)
theorem dX3_isFor_17 : decode cX3_isFor 17 = .ok (.iload_n 2, 1) := dk_28 (dk_at dksX3_isFor_0 17 rfl rfl)
theorem dX3_isFor_18 : decode cX3_isFor 18 = .ok (.iload_n 1, 1) := dk_27 (dk_at dksX3_isFor_0 18 rfl rfl)
theorem dX3_isFor_19 : decode cX3_isFor 19 = .ok (.iconst 1, 1) := dk_4 (dk_at dksX3_isFor_0 19 rfl rfl)
theorem dX3_isFor_20 : decode cX3_isFor 20 = .ok (.iadd, 1) := dk_96 (dk_at dksX3_isFor_0 20 rfl rfl)
theorem dX3_isFor_21 : decode cX3_isFor 21 = .ok (.sipush 600, 3) := dk_17 2 88 (dk_at dksX3_isFor_0 21 rfl rfl)
theorem dX3_isFor_24 : decode cX3_isFor 24 = .ok (.invokestatic 70, 3) := dk_184 0 70 (dk_at dksX3_isFor_1 0 rfl rfl)
theorem dX3_isFor_27 : decode cX3_isFor 27 = .ok (.ifCond .eq 7, 3) := dk_153 0 7 (dk_at dksX3_isFor_1 3 rfl rfl)
theorem dX3_isFor_30 : decode cX3_isFor 30 = .ok (.iconst 1, 1) := dk_4 (dk_at dksX3_isFor_1 6 rfl rfl)
theorem dX3_isFor_31 : decode cX3_isFor 31 = .ok (.goto 4, 3) := dk_167 0 4 (dk_at dksX3_isFor_1 7 rfl rfl)
theorem dX3_isFor_34 : decode cX3_isFor 34 = .ok (.iconst 0, 1) := dk_3 (dk_at dksX3_isFor_1 10 rfl rfl)
theorem dX3_isFor_35 : decode cX3_isFor 35 = .ok (.ireturn, 1) := dk_172 (dk_at dksX3_isFor_1 11 rfl rfl)
abbrev cX3_isMinute : ByteArray := prog_16_method_19_code
def yX3_isMinute : MethodName := ⟨RX3, "isMinute", "(I)Z"⟩
def dkwX3_isMinute_0 : List UInt8 := [26, 3, 17, 2, 87, 184, 0, 70, 172]
abbrev dktX3_isMinute_0 : List UInt8 := dkwX3_isMinute_0 ++ []
theorem dksX3_isMinute_0 : cX3_isMinute.data.toList.drop 0 = dktX3_isMinute_0 := by decide +kernel
theorem dX3_isMinute_0 : decode cX3_isMinute 0 = .ok (.iload_n 0, 1) := dk_26 (dk_at dksX3_isMinute_0 0 rfl rfl)
theorem dX3_isMinute_1 : decode cX3_isMinute 1 = .ok (.iconst 0, 1) := dk_3 (dk_at dksX3_isMinute_0 1 rfl rfl)
theorem dX3_isMinute_2 : decode cX3_isMinute 2 = .ok (.sipush 599, 3) := dk_17 2 87 (dk_at dksX3_isMinute_0 2 rfl rfl)
theorem dX3_isMinute_5 : decode cX3_isMinute 5 = .ok (.invokestatic 70, 3) := dk_184 0 70 (dk_at dksX3_isMinute_0 5 rfl rfl)
theorem dX3_isMinute_8 : decode cX3_isMinute 8 = .ok (.ireturn, 1) := dk_172 (dk_at dksX3_isMinute_0 8 rfl rfl)
abbrev cX3_lets : ByteArray := prog_16_method_27_code
def yX3_lets : MethodName := ⟨RX3, "lets", "(IIII)I"⟩
def dkwX3_lets_4 : List UInt8 := [29, 21, 4, 182, 0, 106, 172]
abbrev dktX3_lets_4 : List UInt8 := dkwX3_lets_4 ++ []
def dkwX3_lets_3 : List UInt8 := [16, 30, 160, 0, 7, 4, 167, 0, 4, 3, 4, 16, 30, 182, 0, 95, 153, 0, 5, 3, 172, 42, 27, 28]
abbrev dktX3_lets_3 : List UInt8 := dkwX3_lets_3 ++ dktX3_lets_4
def dkwX3_lets_2 : List UInt8 := [155, 0, 7, 4, 167, 0, 4, 3, 6, 21, 6, 182, 0, 95, 154, 0, 29, 42, 42, 180, 0, 9, 4, 46]
abbrev dktX3_lets_2 : List UInt8 := dkwX3_lets_2 ++ dktX3_lets_3
def dkwX3_lets_1 : List UInt8 := [21, 5, 28, 162, 0, 7, 4, 167, 0, 4, 3, 5, 21, 5, 182, 0, 95, 154, 0, 49, 42, 21, 6]
abbrev dktX3_lets_1 : List UInt8 := dkwX3_lets_1 ++ dktX3_lets_2
def dkwX3_lets_0 : List UInt8 := [42, 180, 0, 9, 16, 6, 27, 96, 46, 54, 5, 42, 27, 29, 21, 4, 2, 182, 0, 102, 54, 6, 42]
abbrev dktX3_lets_0 : List UInt8 := dkwX3_lets_0 ++ dktX3_lets_1
theorem dksX3_lets_0 : cX3_lets.data.toList.drop 0 = dktX3_lets_0 := by decide +kernel
theorem dksX3_lets_1 : cX3_lets.data.toList.drop 23 = dktX3_lets_1 := dk_seg dksX3_lets_0 23 rfl rfl
theorem dksX3_lets_2 : cX3_lets.data.toList.drop 46 = dktX3_lets_2 := dk_seg dksX3_lets_1 23 rfl rfl
theorem dksX3_lets_3 : cX3_lets.data.toList.drop 70 = dktX3_lets_3 := dk_seg dksX3_lets_2 24 rfl rfl
theorem dksX3_lets_4 : cX3_lets.data.toList.drop 94 = dktX3_lets_4 := dk_seg dksX3_lets_3 24 rfl rfl
theorem dX3_lets_0 : decode cX3_lets 0 = .ok (.aload_n 0, 1) := dk_42 (dk_at dksX3_lets_0 0 rfl rfl)
theorem dX3_lets_1 : decode cX3_lets 1 = .ok (.getfield 9, 3) := dk_180 0 9 (dk_at dksX3_lets_0 1 rfl rfl)
theorem dX3_lets_4 : decode cX3_lets 4 = .ok (.bipush 6, 2) := dk_16 6 (dk_at dksX3_lets_0 4 rfl rfl)
theorem dX3_lets_6 : decode cX3_lets 6 = .ok (.iload_n 1, 1) := dk_27 (dk_at dksX3_lets_0 6 rfl rfl)
theorem dX3_lets_7 : decode cX3_lets 7 = .ok (.iadd, 1) := dk_96 (dk_at dksX3_lets_0 7 rfl rfl)
theorem dX3_lets_8 : decode cX3_lets 8 = .ok (.iaload, 1) := dk_46 (dk_at dksX3_lets_0 8 rfl rfl)
theorem dX3_lets_9 : decode cX3_lets 9 = .ok (.istore 5, 2) := dk_54 5 (dk_at dksX3_lets_0 9 rfl rfl)
theorem dX3_lets_11 : decode cX3_lets 11 = .ok (.aload_n 0, 1) := dk_42 (dk_at dksX3_lets_0 11 rfl rfl)
theorem dX3_lets_12 : decode cX3_lets 12 = .ok (.iload_n 1, 1) := dk_27 (dk_at dksX3_lets_0 12 rfl rfl)
theorem dX3_lets_13 : decode cX3_lets 13 = .ok (.iload_n 3, 1) := dk_29 (dk_at dksX3_lets_0 13 rfl rfl)
theorem dX3_lets_14 : decode cX3_lets 14 = .ok (.iload 4, 2) := dk_21 4 (dk_at dksX3_lets_0 14 rfl rfl)
theorem dX3_lets_16 : decode cX3_lets 16 = .ok (.iconst (-1), 1) := dk_2 (dk_at dksX3_lets_0 16 rfl rfl)
theorem dX3_lets_17 : decode cX3_lets 17 = .ok (.invokevirtual 102, 3) := dk_182 0 102 (dk_at dksX3_lets_0 17 rfl rfl)
theorem dX3_lets_20 : decode cX3_lets 20 = .ok (.istore 6, 2) := dk_54 6 (dk_at dksX3_lets_0 20 rfl rfl)
theorem dX3_lets_22 : decode cX3_lets 22 = .ok (.aload_n 0, 1) := dk_42 (dk_at dksX3_lets_0 22 rfl rfl)
theorem dX3_lets_23 : decode cX3_lets 23 = .ok (.iload 5, 2) := dk_21 5 (dk_at dksX3_lets_1 0 rfl rfl)
theorem dX3_lets_25 : decode cX3_lets 25 = .ok (.iload_n 2, 1) := dk_28 (dk_at dksX3_lets_1 2 rfl rfl)
theorem dX3_lets_26 : decode cX3_lets 26 = .ok (.if_icmp .ge 7, 3) := dk_162 0 7 (dk_at dksX3_lets_1 3 rfl rfl)
theorem dX3_lets_29 : decode cX3_lets 29 = .ok (.iconst 1, 1) := dk_4 (dk_at dksX3_lets_1 6 rfl rfl)
theorem dX3_lets_30 : decode cX3_lets 30 = .ok (.goto 4, 3) := dk_167 0 4 (dk_at dksX3_lets_1 7 rfl rfl)
theorem dX3_lets_33 : decode cX3_lets 33 = .ok (.iconst 0, 1) := dk_3 (dk_at dksX3_lets_1 10 rfl rfl)
theorem dX3_lets_34 : decode cX3_lets 34 = .ok (.iconst 2, 1) := dk_5 (dk_at dksX3_lets_1 11 rfl rfl)
theorem dX3_lets_35 : decode cX3_lets 35 = .ok (.iload 5, 2) := dk_21 5 (dk_at dksX3_lets_1 12 rfl rfl)
theorem dX3_lets_37 : decode cX3_lets 37 = .ok (.invokevirtual 95, 3) := dk_182 0 95 (dk_at dksX3_lets_1 14 rfl rfl)
theorem dX3_lets_40 : decode cX3_lets 40 = .ok (.ifCond .ne 49, 3) := dk_154 0 49 (dk_at dksX3_lets_1 17 rfl rfl)
theorem dX3_lets_43 : decode cX3_lets 43 = .ok (.aload_n 0, 1) := dk_42 (dk_at dksX3_lets_1 20 rfl rfl)
theorem dX3_lets_44 : decode cX3_lets 44 = .ok (.iload 6, 2) := dk_21 6 (dk_at dksX3_lets_1 21 rfl rfl)
theorem dX3_lets_46 : decode cX3_lets 46 = .ok (.ifCond .lt 7, 3) := dk_155 0 7 (dk_at dksX3_lets_2 0 rfl rfl)
theorem dX3_lets_49 : decode cX3_lets 49 = .ok (.iconst 1, 1) := dk_4 (dk_at dksX3_lets_2 3 rfl rfl)
theorem dX3_lets_50 : decode cX3_lets 50 = .ok (.goto 4, 3) := dk_167 0 4 (dk_at dksX3_lets_2 4 rfl rfl)
theorem dX3_lets_53 : decode cX3_lets 53 = .ok (.iconst 0, 1) := dk_3 (dk_at dksX3_lets_2 7 rfl rfl)
theorem dX3_lets_54 : decode cX3_lets 54 = .ok (.iconst 3, 1) := dk_6 (dk_at dksX3_lets_2 8 rfl rfl)
theorem dX3_lets_55 : decode cX3_lets 55 = .ok (.iload 6, 2) := dk_21 6 (dk_at dksX3_lets_2 9 rfl rfl)
theorem dX3_lets_57 : decode cX3_lets 57 = .ok (.invokevirtual 95, 3) := dk_182 0 95 (dk_at dksX3_lets_2 11 rfl rfl)
theorem dX3_lets_60 : decode cX3_lets 60 = .ok (.ifCond .ne 29, 3) := dk_154 0 29 (dk_at dksX3_lets_2 14 rfl rfl)
theorem dX3_lets_63 : decode cX3_lets 63 = .ok (.aload_n 0, 1) := dk_42 (dk_at dksX3_lets_2 17 rfl rfl)
theorem dX3_lets_64 : decode cX3_lets 64 = .ok (.aload_n 0, 1) := dk_42 (dk_at dksX3_lets_2 18 rfl rfl)
theorem dX3_lets_65 : decode cX3_lets 65 = .ok (.getfield 9, 3) := dk_180 0 9 (dk_at dksX3_lets_2 19 rfl rfl)
theorem dX3_lets_68 : decode cX3_lets 68 = .ok (.iconst 1, 1) := dk_4 (dk_at dksX3_lets_2 22 rfl rfl)
theorem dX3_lets_69 : decode cX3_lets 69 = .ok (.iaload, 1) := dk_46 (dk_at dksX3_lets_2 23 rfl rfl)
theorem dX3_lets_70 : decode cX3_lets 70 = .ok (.bipush 30, 2) := dk_16 30 (dk_at dksX3_lets_3 0 rfl rfl)
theorem dX3_lets_72 : decode cX3_lets 72 = .ok (.if_icmp .ne 7, 3) := dk_160 0 7 (dk_at dksX3_lets_3 2 rfl rfl)
theorem dX3_lets_75 : decode cX3_lets 75 = .ok (.iconst 1, 1) := dk_4 (dk_at dksX3_lets_3 5 rfl rfl)
theorem dX3_lets_76 : decode cX3_lets 76 = .ok (.goto 4, 3) := dk_167 0 4 (dk_at dksX3_lets_3 6 rfl rfl)
theorem dX3_lets_79 : decode cX3_lets 79 = .ok (.iconst 0, 1) := dk_3 (dk_at dksX3_lets_3 9 rfl rfl)
theorem dX3_lets_80 : decode cX3_lets 80 = .ok (.iconst 1, 1) := dk_4 (dk_at dksX3_lets_3 10 rfl rfl)
theorem dX3_lets_81 : decode cX3_lets 81 = .ok (.bipush 30, 2) := dk_16 30 (dk_at dksX3_lets_3 11 rfl rfl)
theorem dX3_lets_83 : decode cX3_lets 83 = .ok (.invokevirtual 95, 3) := dk_182 0 95 (dk_at dksX3_lets_3 13 rfl rfl)
theorem dX3_lets_86 : decode cX3_lets 86 = .ok (.ifCond .eq 5, 3) := dk_153 0 5 (dk_at dksX3_lets_3 16 rfl rfl)
theorem dX3_lets_89 : decode cX3_lets 89 = .ok (.iconst 0, 1) := dk_3 (dk_at dksX3_lets_3 19 rfl rfl)
theorem dX3_lets_90 : decode cX3_lets 90 = .ok (.ireturn, 1) := dk_172 (dk_at dksX3_lets_3 20 rfl rfl)
theorem dX3_lets_91 : decode cX3_lets 91 = .ok (.aload_n 0, 1) := dk_42 (dk_at dksX3_lets_3 21 rfl rfl)
theorem dX3_lets_92 : decode cX3_lets 92 = .ok (.iload_n 1, 1) := dk_27 (dk_at dksX3_lets_3 22 rfl rfl)
theorem dX3_lets_93 : decode cX3_lets 93 = .ok (.iload_n 2, 1) := dk_28 (dk_at dksX3_lets_3 23 rfl rfl)
theorem dX3_lets_94 : decode cX3_lets 94 = .ok (.iload_n 3, 1) := dk_29 (dk_at dksX3_lets_4 0 rfl rfl)
theorem dX3_lets_95 : decode cX3_lets 95 = .ok (.iload 4, 2) := dk_21 4 (dk_at dksX3_lets_4 1 rfl rfl)
theorem dX3_lets_97 : decode cX3_lets 97 = .ok (.invokevirtual 106, 3) := dk_182 0 106 (dk_at dksX3_lets_4 3 rfl rfl)
theorem dX3_lets_100 : decode cX3_lets 100 = .ok (.ireturn, 1) := dk_172 (dk_at dksX3_lets_4 6 rfl rfl)
abbrev cX3_inTheWay : ByteArray := prog_16_method_25_code
def yX3_inTheWay : MethodName := ⟨RX3, "inTheWay", "(IIII)I"⟩
def dkwX3_inTheWay_4 : List UInt8 := [182, 0, 78, 162, 0, 8, 21, 6, 167, 0, 5, 21, 5, 54, 5, 132, 6, 1, 167, 255, 150, 21, 5, 172]
abbrev dktX3_inTheWay_4 : List UInt8 := dkwX3_inTheWay_4 ++ []
def dkwX3_inTheWay_3 : List UInt8 := [54, 7, 21, 7, 153, 0, 30, 21, 5, 155, 0, 20, 42, 21, 6, 4, 182, 0, 78, 42, 21, 5, 4]
abbrev dktX3_inTheWay_3 : List UInt8 := dkwX3_inTheWay_3 ++ dktX3_inTheWay_4
def dkwX3_inTheWay_2 : List UInt8 := [182, 0, 78, 29, 162, 0, 18, 42, 21, 6, 5, 182, 0, 78, 28, 164, 0, 7, 4, 167, 0, 4, 3]
abbrev dktX3_inTheWay_2 : List UInt8 := dkwX3_inTheWay_2 ++ dktX3_inTheWay_3
def dkwX3_inTheWay_1 : List UInt8 := [42, 21, 6, 182, 0, 81, 154, 0, 40, 42, 21, 6, 3, 182, 0, 78, 27, 160, 0, 29, 42, 21, 6, 4]
abbrev dktX3_inTheWay_1 : List UInt8 := dkwX3_inTheWay_1 ++ dktX3_inTheWay_2
def dkwX3_inTheWay_0 : List UInt8 := [2, 54, 5, 3, 54, 6, 21, 6, 42, 180, 0, 9, 4, 46, 162, 0, 101, 21, 6, 21, 4, 159, 0, 49]
abbrev dktX3_inTheWay_0 : List UInt8 := dkwX3_inTheWay_0 ++ dktX3_inTheWay_1
theorem dksX3_inTheWay_0 : cX3_inTheWay.data.toList.drop 0 = dktX3_inTheWay_0 := by decide +kernel
theorem dksX3_inTheWay_1 : cX3_inTheWay.data.toList.drop 24 = dktX3_inTheWay_1 := dk_seg dksX3_inTheWay_0 24 rfl rfl
theorem dksX3_inTheWay_2 : cX3_inTheWay.data.toList.drop 48 = dktX3_inTheWay_2 := dk_seg dksX3_inTheWay_1 24 rfl rfl
theorem dksX3_inTheWay_3 : cX3_inTheWay.data.toList.drop 71 = dktX3_inTheWay_3 := dk_seg dksX3_inTheWay_2 23 rfl rfl
theorem dksX3_inTheWay_4 : cX3_inTheWay.data.toList.drop 94 = dktX3_inTheWay_4 := dk_seg dksX3_inTheWay_3 23 rfl rfl
theorem dX3_inTheWay_0 : decode cX3_inTheWay 0 = .ok (.iconst (-1), 1) := dk_2 (dk_at dksX3_inTheWay_0 0 rfl rfl)
theorem dX3_inTheWay_1 : decode cX3_inTheWay 1 = .ok (.istore 5, 2) := dk_54 5 (dk_at dksX3_inTheWay_0 1 rfl rfl)
theorem dX3_inTheWay_3 : decode cX3_inTheWay 3 = .ok (.iconst 0, 1) := dk_3 (dk_at dksX3_inTheWay_0 3 rfl rfl)
theorem dX3_inTheWay_4 : decode cX3_inTheWay 4 = .ok (.istore 6, 2) := dk_54 6 (dk_at dksX3_inTheWay_0 4 rfl rfl)
theorem dX3_inTheWay_6 : decode cX3_inTheWay 6 = .ok (.iload 6, 2) := dk_21 6 (dk_at dksX3_inTheWay_0 6 rfl rfl)
theorem dX3_inTheWay_8 : decode cX3_inTheWay 8 = .ok (.aload_n 0, 1) := dk_42 (dk_at dksX3_inTheWay_0 8 rfl rfl)
theorem dX3_inTheWay_9 : decode cX3_inTheWay 9 = .ok (.getfield 9, 3) := dk_180 0 9 (dk_at dksX3_inTheWay_0 9 rfl rfl)
theorem dX3_inTheWay_12 : decode cX3_inTheWay 12 = .ok (.iconst 1, 1) := dk_4 (dk_at dksX3_inTheWay_0 12 rfl rfl)
theorem dX3_inTheWay_13 : decode cX3_inTheWay 13 = .ok (.iaload, 1) := dk_46 (dk_at dksX3_inTheWay_0 13 rfl rfl)
theorem dX3_inTheWay_14 : decode cX3_inTheWay 14 = .ok (.if_icmp .ge 101, 3) := dk_162 0 101 (dk_at dksX3_inTheWay_0 14 rfl rfl)
theorem dX3_inTheWay_17 : decode cX3_inTheWay 17 = .ok (.iload 6, 2) := dk_21 6 (dk_at dksX3_inTheWay_0 17 rfl rfl)
theorem dX3_inTheWay_19 : decode cX3_inTheWay 19 = .ok (.iload 4, 2) := dk_21 4 (dk_at dksX3_inTheWay_0 19 rfl rfl)
theorem dX3_inTheWay_21 : decode cX3_inTheWay 21 = .ok (.if_icmp .eq 49, 3) := dk_159 0 49 (dk_at dksX3_inTheWay_0 21 rfl rfl)
theorem dX3_inTheWay_24 : decode cX3_inTheWay 24 = .ok (.aload_n 0, 1) := dk_42 (dk_at dksX3_inTheWay_1 0 rfl rfl)
theorem dX3_inTheWay_25 : decode cX3_inTheWay 25 = .ok (.iload 6, 2) := dk_21 6 (dk_at dksX3_inTheWay_1 1 rfl rfl)
theorem dX3_inTheWay_27 : decode cX3_inTheWay 27 = .ok (.invokevirtual 81, 3) := dk_182 0 81 (dk_at dksX3_inTheWay_1 3 rfl rfl)
theorem dX3_inTheWay_30 : decode cX3_inTheWay 30 = .ok (.ifCond .ne 40, 3) := dk_154 0 40 (dk_at dksX3_inTheWay_1 6 rfl rfl)
theorem dX3_inTheWay_33 : decode cX3_inTheWay 33 = .ok (.aload_n 0, 1) := dk_42 (dk_at dksX3_inTheWay_1 9 rfl rfl)
theorem dX3_inTheWay_34 : decode cX3_inTheWay 34 = .ok (.iload 6, 2) := dk_21 6 (dk_at dksX3_inTheWay_1 10 rfl rfl)
theorem dX3_inTheWay_36 : decode cX3_inTheWay 36 = .ok (.iconst 0, 1) := dk_3 (dk_at dksX3_inTheWay_1 12 rfl rfl)
theorem dX3_inTheWay_37 : decode cX3_inTheWay 37 = .ok (.invokevirtual 78, 3) := dk_182 0 78 (dk_at dksX3_inTheWay_1 13 rfl rfl)
theorem dX3_inTheWay_40 : decode cX3_inTheWay 40 = .ok (.iload_n 1, 1) := dk_27 (dk_at dksX3_inTheWay_1 16 rfl rfl)
theorem dX3_inTheWay_41 : decode cX3_inTheWay 41 = .ok (.if_icmp .ne 29, 3) := dk_160 0 29 (dk_at dksX3_inTheWay_1 17 rfl rfl)
theorem dX3_inTheWay_44 : decode cX3_inTheWay 44 = .ok (.aload_n 0, 1) := dk_42 (dk_at dksX3_inTheWay_1 20 rfl rfl)
theorem dX3_inTheWay_45 : decode cX3_inTheWay 45 = .ok (.iload 6, 2) := dk_21 6 (dk_at dksX3_inTheWay_1 21 rfl rfl)
theorem dX3_inTheWay_47 : decode cX3_inTheWay 47 = .ok (.iconst 1, 1) := dk_4 (dk_at dksX3_inTheWay_1 23 rfl rfl)
theorem dX3_inTheWay_48 : decode cX3_inTheWay 48 = .ok (.invokevirtual 78, 3) := dk_182 0 78 (dk_at dksX3_inTheWay_2 0 rfl rfl)
theorem dX3_inTheWay_51 : decode cX3_inTheWay 51 = .ok (.iload_n 3, 1) := dk_29 (dk_at dksX3_inTheWay_2 3 rfl rfl)
theorem dX3_inTheWay_52 : decode cX3_inTheWay 52 = .ok (.if_icmp .ge 18, 3) := dk_162 0 18 (dk_at dksX3_inTheWay_2 4 rfl rfl)
theorem dX3_inTheWay_55 : decode cX3_inTheWay 55 = .ok (.aload_n 0, 1) := dk_42 (dk_at dksX3_inTheWay_2 7 rfl rfl)
theorem dX3_inTheWay_56 : decode cX3_inTheWay 56 = .ok (.iload 6, 2) := dk_21 6 (dk_at dksX3_inTheWay_2 8 rfl rfl)
theorem dX3_inTheWay_58 : decode cX3_inTheWay 58 = .ok (.iconst 2, 1) := dk_5 (dk_at dksX3_inTheWay_2 10 rfl rfl)
theorem dX3_inTheWay_59 : decode cX3_inTheWay 59 = .ok (.invokevirtual 78, 3) := dk_182 0 78 (dk_at dksX3_inTheWay_2 11 rfl rfl)
theorem dX3_inTheWay_62 : decode cX3_inTheWay 62 = .ok (.iload_n 2, 1) := dk_28 (dk_at dksX3_inTheWay_2 14 rfl rfl)
theorem dX3_inTheWay_63 : decode cX3_inTheWay 63 = .ok (.if_icmp .le 7, 3) := dk_164 0 7 (dk_at dksX3_inTheWay_2 15 rfl rfl)
theorem dX3_inTheWay_66 : decode cX3_inTheWay 66 = .ok (.iconst 1, 1) := dk_4 (dk_at dksX3_inTheWay_2 18 rfl rfl)
theorem dX3_inTheWay_67 : decode cX3_inTheWay 67 = .ok (.goto 4, 3) := dk_167 0 4 (dk_at dksX3_inTheWay_2 19 rfl rfl)
theorem dX3_inTheWay_70 : decode cX3_inTheWay 70 = .ok (.iconst 0, 1) := dk_3 (dk_at dksX3_inTheWay_2 22 rfl rfl)
theorem dX3_inTheWay_71 : decode cX3_inTheWay 71 = .ok (.istore 7, 2) := dk_54 7 (dk_at dksX3_inTheWay_3 0 rfl rfl)
theorem dX3_inTheWay_73 : decode cX3_inTheWay 73 = .ok (.iload 7, 2) := dk_21 7 (dk_at dksX3_inTheWay_3 2 rfl rfl)
theorem dX3_inTheWay_75 : decode cX3_inTheWay 75 = .ok (.ifCond .eq 30, 3) := dk_153 0 30 (dk_at dksX3_inTheWay_3 4 rfl rfl)
theorem dX3_inTheWay_78 : decode cX3_inTheWay 78 = .ok (.iload 5, 2) := dk_21 5 (dk_at dksX3_inTheWay_3 7 rfl rfl)
theorem dX3_inTheWay_80 : decode cX3_inTheWay 80 = .ok (.ifCond .lt 20, 3) := dk_155 0 20 (dk_at dksX3_inTheWay_3 9 rfl rfl)
theorem dX3_inTheWay_83 : decode cX3_inTheWay 83 = .ok (.aload_n 0, 1) := dk_42 (dk_at dksX3_inTheWay_3 12 rfl rfl)
theorem dX3_inTheWay_84 : decode cX3_inTheWay 84 = .ok (.iload 6, 2) := dk_21 6 (dk_at dksX3_inTheWay_3 13 rfl rfl)
theorem dX3_inTheWay_86 : decode cX3_inTheWay 86 = .ok (.iconst 1, 1) := dk_4 (dk_at dksX3_inTheWay_3 15 rfl rfl)
theorem dX3_inTheWay_87 : decode cX3_inTheWay 87 = .ok (.invokevirtual 78, 3) := dk_182 0 78 (dk_at dksX3_inTheWay_3 16 rfl rfl)
theorem dX3_inTheWay_90 : decode cX3_inTheWay 90 = .ok (.aload_n 0, 1) := dk_42 (dk_at dksX3_inTheWay_3 19 rfl rfl)
theorem dX3_inTheWay_91 : decode cX3_inTheWay 91 = .ok (.iload 5, 2) := dk_21 5 (dk_at dksX3_inTheWay_3 20 rfl rfl)
theorem dX3_inTheWay_93 : decode cX3_inTheWay 93 = .ok (.iconst 1, 1) := dk_4 (dk_at dksX3_inTheWay_3 22 rfl rfl)
theorem dX3_inTheWay_94 : decode cX3_inTheWay 94 = .ok (.invokevirtual 78, 3) := dk_182 0 78 (dk_at dksX3_inTheWay_4 0 rfl rfl)
theorem dX3_inTheWay_97 : decode cX3_inTheWay 97 = .ok (.if_icmp .ge 8, 3) := dk_162 0 8 (dk_at dksX3_inTheWay_4 3 rfl rfl)
theorem dX3_inTheWay_100 : decode cX3_inTheWay 100 = .ok (.iload 6, 2) := dk_21 6 (dk_at dksX3_inTheWay_4 6 rfl rfl)
theorem dX3_inTheWay_102 : decode cX3_inTheWay 102 = .ok (.goto 5, 3) := dk_167 0 5 (dk_at dksX3_inTheWay_4 8 rfl rfl)
theorem dX3_inTheWay_105 : decode cX3_inTheWay 105 = .ok (.iload 5, 2) := dk_21 5 (dk_at dksX3_inTheWay_4 11 rfl rfl)
theorem dX3_inTheWay_107 : decode cX3_inTheWay 107 = .ok (.istore 5, 2) := dk_54 5 (dk_at dksX3_inTheWay_4 13 rfl rfl)
theorem dX3_inTheWay_109 : decode cX3_inTheWay 109 = .ok (.iinc 6 1, 3) := dk_132 6 1 (dk_at dksX3_inTheWay_4 15 rfl rfl)
theorem dX3_inTheWay_112 : decode cX3_inTheWay 112 = .ok (.goto (-106), 3) := dk_167 255 150 (dk_at dksX3_inTheWay_4 18 rfl rfl)
theorem dX3_inTheWay_115 : decode cX3_inTheWay 115 = .ok (.iload 5, 2) := dk_21 5 (dk_at dksX3_inTheWay_4 21 rfl rfl)
theorem dX3_inTheWay_117 : decode cX3_inTheWay 117 = .ok (.ireturn, 1) := dk_172 (dk_at dksX3_inTheWay_4 23 rfl rfl)
abbrev cX3_isOver : ByteArray := prog_16_method_21_code
def yX3_isOver : MethodName := ⟨RX3, "isOver", "(I)Z"⟩
def dkwX3_isOver_0 : List UInt8 := [42, 27, 7, 182, 0, 78, 4, 160, 0, 7, 4, 167, 0, 4, 3, 172]
abbrev dktX3_isOver_0 : List UInt8 := dkwX3_isOver_0 ++ []
theorem dksX3_isOver_0 : cX3_isOver.data.toList.drop 0 = dktX3_isOver_0 := by decide +kernel
theorem dX3_isOver_0 : decode cX3_isOver 0 = .ok (.aload_n 0, 1) := dk_42 (dk_at dksX3_isOver_0 0 rfl rfl)
theorem dX3_isOver_1 : decode cX3_isOver 1 = .ok (.iload_n 1, 1) := dk_27 (dk_at dksX3_isOver_0 1 rfl rfl)
theorem dX3_isOver_2 : decode cX3_isOver 2 = .ok (.iconst 4, 1) := dk_7 (dk_at dksX3_isOver_0 2 rfl rfl)
theorem dX3_isOver_3 : decode cX3_isOver 3 = .ok (.invokevirtual 78, 3) := dk_182 0 78 (dk_at dksX3_isOver_0 3 rfl rfl)
theorem dX3_isOver_6 : decode cX3_isOver 6 = .ok (.iconst 1, 1) := dk_4 (dk_at dksX3_isOver_0 6 rfl rfl)
theorem dX3_isOver_7 : decode cX3_isOver 7 = .ok (.if_icmp .ne 7, 3) := dk_160 0 7 (dk_at dksX3_isOver_0 7 rfl rfl)
theorem dX3_isOver_10 : decode cX3_isOver 10 = .ok (.iconst 1, 1) := dk_4 (dk_at dksX3_isOver_0 10 rfl rfl)
theorem dX3_isOver_11 : decode cX3_isOver 11 = .ok (.goto 4, 3) := dk_167 0 4 (dk_at dksX3_isOver_0 11 rfl rfl)
theorem dX3_isOver_14 : decode cX3_isOver 14 = .ok (.iconst 0, 1) := dk_3 (dk_at dksX3_isOver_0 14 rfl rfl)
theorem dX3_isOver_15 : decode cX3_isOver 15 = .ok (.ireturn, 1) := dk_172 (dk_at dksX3_isOver_0 15 rfl rfl)
abbrev cX3_ofLetting : ByteArray := prog_16_method_13_code
def yX3_ofLetting : MethodName := ⟨RX3, "ofLetting", "(II)I"⟩
def dkwX3_ofLetting_0 : List UInt8 := [42, 180, 0, 9, 27, 28, 184, 0, 63, 46, 172]
abbrev dktX3_ofLetting_0 : List UInt8 := dkwX3_ofLetting_0 ++ []
theorem dksX3_ofLetting_0 : cX3_ofLetting.data.toList.drop 0 = dktX3_ofLetting_0 := by decide +kernel
theorem dX3_ofLetting_0 : decode cX3_ofLetting 0 = .ok (.aload_n 0, 1) := dk_42 (dk_at dksX3_ofLetting_0 0 rfl rfl)
theorem dX3_ofLetting_1 : decode cX3_ofLetting 1 = .ok (.getfield 9, 3) := dk_180 0 9 (dk_at dksX3_ofLetting_0 1 rfl rfl)
theorem dX3_ofLetting_4 : decode cX3_ofLetting 4 = .ok (.iload_n 1, 1) := dk_27 (dk_at dksX3_ofLetting_0 4 rfl rfl)
theorem dX3_ofLetting_5 : decode cX3_ofLetting 5 = .ok (.iload_n 2, 1) := dk_28 (dk_at dksX3_ofLetting_0 5 rfl rfl)
theorem dX3_ofLetting_6 : decode cX3_ofLetting 6 = .ok (.invokestatic 63, 3) := dk_184 0 63 (dk_at dksX3_ofLetting_0 6 rfl rfl)
theorem dX3_ofLetting_9 : decode cX3_ofLetting 9 = .ok (.iaload, 1) := dk_46 (dk_at dksX3_ofLetting_0 9 rfl rfl)
theorem dX3_ofLetting_10 : decode cX3_ofLetting 10 = .ok (.ireturn, 1) := dk_172 (dk_at dksX3_ofLetting_0 10 rfl rfl)
abbrev cX3_lettingAt : ByteArray := prog_16_method_12_code
def yX3_lettingAt : MethodName := ⟨RX3, "lettingAt", "(II)I"⟩
def dkwX3_lettingAt_0 : List UInt8 := [16, 11, 8, 26, 104, 96, 27, 96, 172]
abbrev dktX3_lettingAt_0 : List UInt8 := dkwX3_lettingAt_0 ++ []
theorem dksX3_lettingAt_0 : cX3_lettingAt.data.toList.drop 0 = dktX3_lettingAt_0 := by decide +kernel
theorem dX3_lettingAt_0 : decode cX3_lettingAt 0 = .ok (.bipush 11, 2) := dk_16 11 (dk_at dksX3_lettingAt_0 0 rfl rfl)
theorem dX3_lettingAt_2 : decode cX3_lettingAt 2 = .ok (.iconst 5, 1) := dk_8 (dk_at dksX3_lettingAt_0 2 rfl rfl)
theorem dX3_lettingAt_3 : decode cX3_lettingAt 3 = .ok (.iload_n 0, 1) := dk_26 (dk_at dksX3_lettingAt_0 3 rfl rfl)
theorem dX3_lettingAt_4 : decode cX3_lettingAt 4 = .ok (.imul, 1) := dk_104 (dk_at dksX3_lettingAt_0 4 rfl rfl)
theorem dX3_lettingAt_5 : decode cX3_lettingAt 5 = .ok (.iadd, 1) := dk_96 (dk_at dksX3_lettingAt_0 5 rfl rfl)
theorem dX3_lettingAt_6 : decode cX3_lettingAt 6 = .ok (.iload_n 1, 1) := dk_27 (dk_at dksX3_lettingAt_0 6 rfl rfl)
theorem dX3_lettingAt_7 : decode cX3_lettingAt 7 = .ok (.iadd, 1) := dk_96 (dk_at dksX3_lettingAt_0 7 rfl rfl)
theorem dX3_lettingAt_8 : decode cX3_lettingAt 8 = .ok (.ireturn, 1) := dk_172 (dk_at dksX3_lettingAt_0 8 rfl rfl)
abbrev cX3_makes : ByteArray := prog_16_method_26_code
def yX3_makes : MethodName := ⟨RX3, "makes", "(IIII)I"⟩
def dkwX3_makes_3 : List UInt8 := [180, 0, 9, 4, 92, 46, 4, 96, 79, 21, 5, 172]
abbrev dktX3_makes_3 : List UInt8 := dkwX3_makes_3 ++ []
def dkwX3_makes_2 : List UInt8 := [180, 0, 9, 21, 5, 6, 184, 0, 63, 28, 79, 42, 180, 0, 9, 21, 5, 7, 184, 0, 63, 3, 79, 42]
abbrev dktX3_makes_2 : List UInt8 := dkwX3_makes_2 ++ dktX3_makes_3
def dkwX3_makes_1 : List UInt8 := [21, 5, 4, 184, 0, 63, 29, 79, 42, 180, 0, 9, 21, 5, 5, 184, 0, 63, 21, 4, 79, 42]
abbrev dktX3_makes_1 : List UInt8 := dkwX3_makes_1 ++ dktX3_makes_2
def dkwX3_makes_0 : List UInt8 := [42, 180, 0, 9, 4, 46, 54, 5, 42, 180, 0, 9, 21, 5, 3, 184, 0, 63, 27, 79, 42, 180, 0, 9]
abbrev dktX3_makes_0 : List UInt8 := dkwX3_makes_0 ++ dktX3_makes_1
theorem dksX3_makes_0 : cX3_makes.data.toList.drop 0 = dktX3_makes_0 := by decide +kernel
theorem dksX3_makes_1 : cX3_makes.data.toList.drop 24 = dktX3_makes_1 := dk_seg dksX3_makes_0 24 rfl rfl
theorem dksX3_makes_2 : cX3_makes.data.toList.drop 46 = dktX3_makes_2 := dk_seg dksX3_makes_1 22 rfl rfl
theorem dksX3_makes_3 : cX3_makes.data.toList.drop 70 = dktX3_makes_3 := dk_seg dksX3_makes_2 24 rfl rfl
theorem dX3_makes_0 : decode cX3_makes 0 = .ok (.aload_n 0, 1) := dk_42 (dk_at dksX3_makes_0 0 rfl rfl)
theorem dX3_makes_1 : decode cX3_makes 1 = .ok (.getfield 9, 3) := dk_180 0 9 (dk_at dksX3_makes_0 1 rfl rfl)
theorem dX3_makes_4 : decode cX3_makes 4 = .ok (.iconst 1, 1) := dk_4 (dk_at dksX3_makes_0 4 rfl rfl)
theorem dX3_makes_5 : decode cX3_makes 5 = .ok (.iaload, 1) := dk_46 (dk_at dksX3_makes_0 5 rfl rfl)
theorem dX3_makes_6 : decode cX3_makes 6 = .ok (.istore 5, 2) := dk_54 5 (dk_at dksX3_makes_0 6 rfl rfl)
theorem dX3_makes_8 : decode cX3_makes 8 = .ok (.aload_n 0, 1) := dk_42 (dk_at dksX3_makes_0 8 rfl rfl)
theorem dX3_makes_9 : decode cX3_makes 9 = .ok (.getfield 9, 3) := dk_180 0 9 (dk_at dksX3_makes_0 9 rfl rfl)
theorem dX3_makes_12 : decode cX3_makes 12 = .ok (.iload 5, 2) := dk_21 5 (dk_at dksX3_makes_0 12 rfl rfl)
theorem dX3_makes_14 : decode cX3_makes 14 = .ok (.iconst 0, 1) := dk_3 (dk_at dksX3_makes_0 14 rfl rfl)
theorem dX3_makes_15 : decode cX3_makes 15 = .ok (.invokestatic 63, 3) := dk_184 0 63 (dk_at dksX3_makes_0 15 rfl rfl)
theorem dX3_makes_18 : decode cX3_makes 18 = .ok (.iload_n 1, 1) := dk_27 (dk_at dksX3_makes_0 18 rfl rfl)
theorem dX3_makes_19 : decode cX3_makes 19 = .ok (.iastore, 1) := dk_79 (dk_at dksX3_makes_0 19 rfl rfl)
theorem dX3_makes_20 : decode cX3_makes 20 = .ok (.aload_n 0, 1) := dk_42 (dk_at dksX3_makes_0 20 rfl rfl)
theorem dX3_makes_21 : decode cX3_makes 21 = .ok (.getfield 9, 3) := dk_180 0 9 (dk_at dksX3_makes_0 21 rfl rfl)
theorem dX3_makes_24 : decode cX3_makes 24 = .ok (.iload 5, 2) := dk_21 5 (dk_at dksX3_makes_1 0 rfl rfl)
theorem dX3_makes_26 : decode cX3_makes 26 = .ok (.iconst 1, 1) := dk_4 (dk_at dksX3_makes_1 2 rfl rfl)
theorem dX3_makes_27 : decode cX3_makes 27 = .ok (.invokestatic 63, 3) := dk_184 0 63 (dk_at dksX3_makes_1 3 rfl rfl)
theorem dX3_makes_30 : decode cX3_makes 30 = .ok (.iload_n 3, 1) := dk_29 (dk_at dksX3_makes_1 6 rfl rfl)
theorem dX3_makes_31 : decode cX3_makes 31 = .ok (.iastore, 1) := dk_79 (dk_at dksX3_makes_1 7 rfl rfl)
theorem dX3_makes_32 : decode cX3_makes 32 = .ok (.aload_n 0, 1) := dk_42 (dk_at dksX3_makes_1 8 rfl rfl)
theorem dX3_makes_33 : decode cX3_makes 33 = .ok (.getfield 9, 3) := dk_180 0 9 (dk_at dksX3_makes_1 9 rfl rfl)
theorem dX3_makes_36 : decode cX3_makes 36 = .ok (.iload 5, 2) := dk_21 5 (dk_at dksX3_makes_1 12 rfl rfl)
theorem dX3_makes_38 : decode cX3_makes 38 = .ok (.iconst 2, 1) := dk_5 (dk_at dksX3_makes_1 14 rfl rfl)
theorem dX3_makes_39 : decode cX3_makes 39 = .ok (.invokestatic 63, 3) := dk_184 0 63 (dk_at dksX3_makes_1 15 rfl rfl)
theorem dX3_makes_42 : decode cX3_makes 42 = .ok (.iload 4, 2) := dk_21 4 (dk_at dksX3_makes_1 18 rfl rfl)
theorem dX3_makes_44 : decode cX3_makes 44 = .ok (.iastore, 1) := dk_79 (dk_at dksX3_makes_1 20 rfl rfl)
theorem dX3_makes_45 : decode cX3_makes 45 = .ok (.aload_n 0, 1) := dk_42 (dk_at dksX3_makes_1 21 rfl rfl)
theorem dX3_makes_46 : decode cX3_makes 46 = .ok (.getfield 9, 3) := dk_180 0 9 (dk_at dksX3_makes_2 0 rfl rfl)
theorem dX3_makes_49 : decode cX3_makes 49 = .ok (.iload 5, 2) := dk_21 5 (dk_at dksX3_makes_2 3 rfl rfl)
theorem dX3_makes_51 : decode cX3_makes 51 = .ok (.iconst 3, 1) := dk_6 (dk_at dksX3_makes_2 5 rfl rfl)
theorem dX3_makes_52 : decode cX3_makes 52 = .ok (.invokestatic 63, 3) := dk_184 0 63 (dk_at dksX3_makes_2 6 rfl rfl)
theorem dX3_makes_55 : decode cX3_makes 55 = .ok (.iload_n 2, 1) := dk_28 (dk_at dksX3_makes_2 9 rfl rfl)
theorem dX3_makes_56 : decode cX3_makes 56 = .ok (.iastore, 1) := dk_79 (dk_at dksX3_makes_2 10 rfl rfl)
theorem dX3_makes_57 : decode cX3_makes 57 = .ok (.aload_n 0, 1) := dk_42 (dk_at dksX3_makes_2 11 rfl rfl)
theorem dX3_makes_58 : decode cX3_makes 58 = .ok (.getfield 9, 3) := dk_180 0 9 (dk_at dksX3_makes_2 12 rfl rfl)
theorem dX3_makes_61 : decode cX3_makes 61 = .ok (.iload 5, 2) := dk_21 5 (dk_at dksX3_makes_2 15 rfl rfl)
theorem dX3_makes_63 : decode cX3_makes 63 = .ok (.iconst 4, 1) := dk_7 (dk_at dksX3_makes_2 17 rfl rfl)
theorem dX3_makes_64 : decode cX3_makes 64 = .ok (.invokestatic 63, 3) := dk_184 0 63 (dk_at dksX3_makes_2 18 rfl rfl)
theorem dX3_makes_67 : decode cX3_makes 67 = .ok (.iconst 0, 1) := dk_3 (dk_at dksX3_makes_2 21 rfl rfl)
theorem dX3_makes_68 : decode cX3_makes 68 = .ok (.iastore, 1) := dk_79 (dk_at dksX3_makes_2 22 rfl rfl)
theorem dX3_makes_69 : decode cX3_makes 69 = .ok (.aload_n 0, 1) := dk_42 (dk_at dksX3_makes_2 23 rfl rfl)
theorem dX3_makes_70 : decode cX3_makes 70 = .ok (.getfield 9, 3) := dk_180 0 9 (dk_at dksX3_makes_3 0 rfl rfl)
theorem dX3_makes_73 : decode cX3_makes 73 = .ok (.iconst 1, 1) := dk_4 (dk_at dksX3_makes_3 3 rfl rfl)
theorem dX3_makes_74 : decode cX3_makes 74 = .ok (.dup2, 1) := dk_92 (dk_at dksX3_makes_3 4 rfl rfl)
theorem dX3_makes_75 : decode cX3_makes 75 = .ok (.iaload, 1) := dk_46 (dk_at dksX3_makes_3 5 rfl rfl)
theorem dX3_makes_76 : decode cX3_makes 76 = .ok (.iconst 1, 1) := dk_4 (dk_at dksX3_makes_3 6 rfl rfl)
theorem dX3_makes_77 : decode cX3_makes 77 = .ok (.iadd, 1) := dk_96 (dk_at dksX3_makes_3 7 rfl rfl)
theorem dX3_makes_78 : decode cX3_makes 78 = .ok (.iastore, 1) := dk_79 (dk_at dksX3_makes_3 8 rfl rfl)
theorem dX3_makes_79 : decode cX3_makes 79 = .ok (.iload 5, 2) := dk_21 5 (dk_at dksX3_makes_3 9 rfl rfl)
theorem dX3_makes_81 : decode cX3_makes 81 = .ok (.ireturn, 1) := dk_172 (dk_at dksX3_makes_3 11 rfl rfl)
abbrev cX3_cancel : ByteArray := prog_16_method_31_code
def yX3_cancel : MethodName := ⟨RX3, "cancel", "(I)I"⟩
def dkwX3_cancel_1 : List UInt8 := [153, 0, 5, 3, 172, 42, 42, 27, 182, 0, 127, 5, 182, 0, 99, 172]
abbrev dktX3_cancel_1 : List UInt8 := dkwX3_cancel_1 ++ []
def dkwX3_cancel_0 : List UInt8 := [42, 182, 0, 88, 42, 42, 27, 182, 0, 124, 154, 0, 7, 4, 167, 0, 4, 3, 4, 182, 0, 91]
abbrev dktX3_cancel_0 : List UInt8 := dkwX3_cancel_0 ++ dktX3_cancel_1
theorem dksX3_cancel_0 : cX3_cancel.data.toList.drop 0 = dktX3_cancel_0 := by decide +kernel
theorem dksX3_cancel_1 : cX3_cancel.data.toList.drop 22 = dktX3_cancel_1 := dk_seg dksX3_cancel_0 22 rfl rfl
theorem dX3_cancel_0 : decode cX3_cancel 0 = .ok (.aload_n 0, 1) := dk_42 (dk_at dksX3_cancel_0 0 rfl rfl)
theorem dX3_cancel_1 : decode cX3_cancel 1 = .ok (.invokevirtual 88, 3) := dk_182 0 88 (dk_at dksX3_cancel_0 1 rfl rfl)
theorem dX3_cancel_4 : decode cX3_cancel 4 = .ok (.aload_n 0, 1) := dk_42 (dk_at dksX3_cancel_0 4 rfl rfl)
theorem dX3_cancel_5 : decode cX3_cancel 5 = .ok (.aload_n 0, 1) := dk_42 (dk_at dksX3_cancel_0 5 rfl rfl)
theorem dX3_cancel_6 : decode cX3_cancel 6 = .ok (.iload_n 1, 1) := dk_27 (dk_at dksX3_cancel_0 6 rfl rfl)
theorem dX3_cancel_7 : decode cX3_cancel 7 = .ok (.invokevirtual 124, 3) := dk_182 0 124 (dk_at dksX3_cancel_0 7 rfl rfl)
theorem dX3_cancel_10 : decode cX3_cancel 10 = .ok (.ifCond .ne 7, 3) := dk_154 0 7 (dk_at dksX3_cancel_0 10 rfl rfl)
theorem dX3_cancel_13 : decode cX3_cancel 13 = .ok (.iconst 1, 1) := dk_4 (dk_at dksX3_cancel_0 13 rfl rfl)
theorem dX3_cancel_14 : decode cX3_cancel 14 = .ok (.goto 4, 3) := dk_167 0 4 (dk_at dksX3_cancel_0 14 rfl rfl)
theorem dX3_cancel_17 : decode cX3_cancel 17 = .ok (.iconst 0, 1) := dk_3 (dk_at dksX3_cancel_0 17 rfl rfl)
theorem dX3_cancel_18 : decode cX3_cancel 18 = .ok (.iconst 1, 1) := dk_4 (dk_at dksX3_cancel_0 18 rfl rfl)
theorem dX3_cancel_19 : decode cX3_cancel 19 = .ok (.invokevirtual 91, 3) := dk_182 0 91 (dk_at dksX3_cancel_0 19 rfl rfl)
theorem dX3_cancel_22 : decode cX3_cancel 22 = .ok (.ifCond .eq 5, 3) := dk_153 0 5 (dk_at dksX3_cancel_1 0 rfl rfl)
theorem dX3_cancel_25 : decode cX3_cancel 25 = .ok (.iconst 0, 1) := dk_3 (dk_at dksX3_cancel_1 3 rfl rfl)
theorem dX3_cancel_26 : decode cX3_cancel 26 = .ok (.ireturn, 1) := dk_172 (dk_at dksX3_cancel_1 4 rfl rfl)
theorem dX3_cancel_27 : decode cX3_cancel 27 = .ok (.aload_n 0, 1) := dk_42 (dk_at dksX3_cancel_1 5 rfl rfl)
theorem dX3_cancel_28 : decode cX3_cancel 28 = .ok (.aload_n 0, 1) := dk_42 (dk_at dksX3_cancel_1 6 rfl rfl)
theorem dX3_cancel_29 : decode cX3_cancel 29 = .ok (.iload_n 1, 1) := dk_27 (dk_at dksX3_cancel_1 7 rfl rfl)
theorem dX3_cancel_30 : decode cX3_cancel 30 = .ok (.invokevirtual 127, 3) := dk_182 0 127 (dk_at dksX3_cancel_1 8 rfl rfl)
theorem dX3_cancel_33 : decode cX3_cancel 33 = .ok (.iconst 2, 1) := dk_5 (dk_at dksX3_cancel_1 11 rfl rfl)
theorem dX3_cancel_34 : decode cX3_cancel 34 = .ok (.invokevirtual 99, 3) := dk_182 0 99 (dk_at dksX3_cancel_1 12 rfl rfl)
theorem dX3_cancel_37 : decode cX3_cancel 37 = .ok (.ireturn, 1) := dk_172 (dk_at dksX3_cancel_1 15 rfl rfl)
abbrev cX3_isLetting : ByteArray := prog_16_method_17_code
def yX3_isLetting : MethodName := ⟨RX3, "isLetting", "(I)Z"⟩
def dkwX3_isLetting_0 : List UInt8 := [27, 3, 42, 180, 0, 9, 4, 46, 4, 100, 184, 0, 70, 172]
abbrev dktX3_isLetting_0 : List UInt8 := dkwX3_isLetting_0 ++ []
theorem dksX3_isLetting_0 : cX3_isLetting.data.toList.drop 0 = dktX3_isLetting_0 := by decide +kernel
theorem dX3_isLetting_0 : decode cX3_isLetting 0 = .ok (.iload_n 1, 1) := dk_27 (dk_at dksX3_isLetting_0 0 rfl rfl)
theorem dX3_isLetting_1 : decode cX3_isLetting 1 = .ok (.iconst 0, 1) := dk_3 (dk_at dksX3_isLetting_0 1 rfl rfl)
theorem dX3_isLetting_2 : decode cX3_isLetting 2 = .ok (.aload_n 0, 1) := dk_42 (dk_at dksX3_isLetting_0 2 rfl rfl)
theorem dX3_isLetting_3 : decode cX3_isLetting 3 = .ok (.getfield 9, 3) := dk_180 0 9 (dk_at dksX3_isLetting_0 3 rfl rfl)
theorem dX3_isLetting_6 : decode cX3_isLetting 6 = .ok (.iconst 1, 1) := dk_4 (dk_at dksX3_isLetting_0 6 rfl rfl)
theorem dX3_isLetting_7 : decode cX3_isLetting 7 = .ok (.iaload, 1) := dk_46 (dk_at dksX3_isLetting_0 7 rfl rfl)
theorem dX3_isLetting_8 : decode cX3_isLetting 8 = .ok (.iconst 1, 1) := dk_4 (dk_at dksX3_isLetting_0 8 rfl rfl)
theorem dX3_isLetting_9 : decode cX3_isLetting 9 = .ok (.isub, 1) := dk_100 (dk_at dksX3_isLetting_0 9 rfl rfl)
theorem dX3_isLetting_10 : decode cX3_isLetting 10 = .ok (.invokestatic 70, 3) := dk_184 0 70 (dk_at dksX3_isLetting_0 10 rfl rfl)
theorem dX3_isLetting_13 : decode cX3_isLetting 13 = .ok (.ireturn, 1) := dk_172 (dk_at dksX3_isLetting_0 13 rfl rfl)
abbrev cX3_cancels : ByteArray := prog_16_method_30_code
def yX3_cancels : MethodName := ⟨RX3, "cancels", "(I)I"⟩
def dkwX3_cancels_1 : List UInt8 := [184, 0, 63, 4, 79, 42, 180, 0, 9, 7, 92, 46, 4, 96, 79, 28, 172]
abbrev dktX3_cancels_1 : List UInt8 := dkwX3_cancels_1 ++ []
def dkwX3_cancels_0 : List UInt8 := [42, 27, 182, 0, 118, 153, 0, 5, 3, 172, 42, 27, 182, 0, 121, 61, 42, 180, 0, 9, 27, 7]
abbrev dktX3_cancels_0 : List UInt8 := dkwX3_cancels_0 ++ dktX3_cancels_1
theorem dksX3_cancels_0 : cX3_cancels.data.toList.drop 0 = dktX3_cancels_0 := by decide +kernel
theorem dksX3_cancels_1 : cX3_cancels.data.toList.drop 22 = dktX3_cancels_1 := dk_seg dksX3_cancels_0 22 rfl rfl
theorem dX3_cancels_0 : decode cX3_cancels 0 = .ok (.aload_n 0, 1) := dk_42 (dk_at dksX3_cancels_0 0 rfl rfl)
theorem dX3_cancels_1 : decode cX3_cancels 1 = .ok (.iload_n 1, 1) := dk_27 (dk_at dksX3_cancels_0 1 rfl rfl)
theorem dX3_cancels_2 : decode cX3_cancels 2 = .ok (.invokevirtual 118, 3) := dk_182 0 118 (dk_at dksX3_cancels_0 2 rfl rfl)
theorem dX3_cancels_5 : decode cX3_cancels 5 = .ok (.ifCond .eq 5, 3) := dk_153 0 5 (dk_at dksX3_cancels_0 5 rfl rfl)
theorem dX3_cancels_8 : decode cX3_cancels 8 = .ok (.iconst 0, 1) := dk_3 (dk_at dksX3_cancels_0 8 rfl rfl)
theorem dX3_cancels_9 : decode cX3_cancels 9 = .ok (.ireturn, 1) := dk_172 (dk_at dksX3_cancels_0 9 rfl rfl)
theorem dX3_cancels_10 : decode cX3_cancels 10 = .ok (.aload_n 0, 1) := dk_42 (dk_at dksX3_cancels_0 10 rfl rfl)
theorem dX3_cancels_11 : decode cX3_cancels 11 = .ok (.iload_n 1, 1) := dk_27 (dk_at dksX3_cancels_0 11 rfl rfl)
theorem dX3_cancels_12 : decode cX3_cancels 12 = .ok (.invokevirtual 121, 3) := dk_182 0 121 (dk_at dksX3_cancels_0 12 rfl rfl)
theorem dX3_cancels_15 : decode cX3_cancels 15 = .ok (.istore_n 2, 1) := dk_61 (dk_at dksX3_cancels_0 15 rfl rfl)
theorem dX3_cancels_16 : decode cX3_cancels 16 = .ok (.aload_n 0, 1) := dk_42 (dk_at dksX3_cancels_0 16 rfl rfl)
theorem dX3_cancels_17 : decode cX3_cancels 17 = .ok (.getfield 9, 3) := dk_180 0 9 (dk_at dksX3_cancels_0 17 rfl rfl)
theorem dX3_cancels_20 : decode cX3_cancels 20 = .ok (.iload_n 1, 1) := dk_27 (dk_at dksX3_cancels_0 20 rfl rfl)
theorem dX3_cancels_21 : decode cX3_cancels 21 = .ok (.iconst 4, 1) := dk_7 (dk_at dksX3_cancels_0 21 rfl rfl)
theorem dX3_cancels_22 : decode cX3_cancels 22 = .ok (.invokestatic 63, 3) := dk_184 0 63 (dk_at dksX3_cancels_1 0 rfl rfl)
theorem dX3_cancels_25 : decode cX3_cancels 25 = .ok (.iconst 1, 1) := dk_4 (dk_at dksX3_cancels_1 3 rfl rfl)
theorem dX3_cancels_26 : decode cX3_cancels 26 = .ok (.iastore, 1) := dk_79 (dk_at dksX3_cancels_1 4 rfl rfl)
theorem dX3_cancels_27 : decode cX3_cancels 27 = .ok (.aload_n 0, 1) := dk_42 (dk_at dksX3_cancels_1 5 rfl rfl)
theorem dX3_cancels_28 : decode cX3_cancels 28 = .ok (.getfield 9, 3) := dk_180 0 9 (dk_at dksX3_cancels_1 6 rfl rfl)
theorem dX3_cancels_31 : decode cX3_cancels 31 = .ok (.iconst 4, 1) := dk_7 (dk_at dksX3_cancels_1 9 rfl rfl)
theorem dX3_cancels_32 : decode cX3_cancels 32 = .ok (.dup2, 1) := dk_92 (dk_at dksX3_cancels_1 10 rfl rfl)
theorem dX3_cancels_33 : decode cX3_cancels 33 = .ok (.iaload, 1) := dk_46 (dk_at dksX3_cancels_1 11 rfl rfl)
theorem dX3_cancels_34 : decode cX3_cancels 34 = .ok (.iconst 1, 1) := dk_4 (dk_at dksX3_cancels_1 12 rfl rfl)
theorem dX3_cancels_35 : decode cX3_cancels 35 = .ok (.iadd, 1) := dk_96 (dk_at dksX3_cancels_1 13 rfl rfl)
theorem dX3_cancels_36 : decode cX3_cancels 36 = .ok (.iastore, 1) := dk_79 (dk_at dksX3_cancels_1 14 rfl rfl)
theorem dX3_cancels_37 : decode cX3_cancels 37 = .ok (.iload_n 2, 1) := dk_28 (dk_at dksX3_cancels_1 15 rfl rfl)
theorem dX3_cancels_38 : decode cX3_cancels 38 = .ok (.ireturn, 1) := dk_172 (dk_at dksX3_cancels_1 16 rfl rfl)
abbrev cX3_isRefusedAsOver : ByteArray := prog_16_method_29_code
def yX3_isRefusedAsOver : MethodName := ⟨RX3, "isRefusedAsOver", "(I)Z"⟩
def dkwX3_isRefusedAsOver_0 : List UInt8 := [42, 42, 27, 182, 0, 81, 7, 27, 182, 0, 95, 172]
abbrev dktX3_isRefusedAsOver_0 : List UInt8 := dkwX3_isRefusedAsOver_0 ++ []
theorem dksX3_isRefusedAsOver_0 : cX3_isRefusedAsOver.data.toList.drop 0 = dktX3_isRefusedAsOver_0 := by decide +kernel
theorem dX3_isRefusedAsOver_0 : decode cX3_isRefusedAsOver 0 = .ok (.aload_n 0, 1) := dk_42 (dk_at dksX3_isRefusedAsOver_0 0 rfl rfl)
theorem dX3_isRefusedAsOver_1 : decode cX3_isRefusedAsOver 1 = .ok (.aload_n 0, 1) := dk_42 (dk_at dksX3_isRefusedAsOver_0 1 rfl rfl)
theorem dX3_isRefusedAsOver_2 : decode cX3_isRefusedAsOver 2 = .ok (.iload_n 1, 1) := dk_27 (dk_at dksX3_isRefusedAsOver_0 2 rfl rfl)
theorem dX3_isRefusedAsOver_3 : decode cX3_isRefusedAsOver 3 = .ok (.invokevirtual 81, 3) := dk_182 0 81 (dk_at dksX3_isRefusedAsOver_0 3 rfl rfl)
theorem dX3_isRefusedAsOver_6 : decode cX3_isRefusedAsOver 6 = .ok (.iconst 4, 1) := dk_7 (dk_at dksX3_isRefusedAsOver_0 6 rfl rfl)
theorem dX3_isRefusedAsOver_7 : decode cX3_isRefusedAsOver 7 = .ok (.iload_n 1, 1) := dk_27 (dk_at dksX3_isRefusedAsOver_0 7 rfl rfl)
theorem dX3_isRefusedAsOver_8 : decode cX3_isRefusedAsOver 8 = .ok (.invokevirtual 95, 3) := dk_182 0 95 (dk_at dksX3_isRefusedAsOver_0 8 rfl rfl)
theorem dX3_isRefusedAsOver_11 : decode cX3_isRefusedAsOver 11 = .ok (.ireturn, 1) := dk_172 (dk_at dksX3_isRefusedAsOver_0 11 rfl rfl)
abbrev cX3_coinsOf : ByteArray := prog_16_method_23_code
def yX3_coinsOf : MethodName := ⟨RX3, "coinsOf", "(I)I"⟩
def dkwX3_coinsOf_1 : List UInt8 := [172]
abbrev dktX3_coinsOf_1 : List UInt8 := dkwX3_coinsOf_1 ++ []
def dkwX3_coinsOf_0 : List UInt8 := [42, 27, 182, 0, 81, 153, 0, 7, 3, 167, 0, 15, 42, 27, 182, 0, 84, 42, 27, 6, 182, 0, 78, 104]
abbrev dktX3_coinsOf_0 : List UInt8 := dkwX3_coinsOf_0 ++ dktX3_coinsOf_1
theorem dksX3_coinsOf_0 : cX3_coinsOf.data.toList.drop 0 = dktX3_coinsOf_0 := by decide +kernel
theorem dksX3_coinsOf_1 : cX3_coinsOf.data.toList.drop 24 = dktX3_coinsOf_1 := dk_seg dksX3_coinsOf_0 24 rfl rfl
theorem dX3_coinsOf_0 : decode cX3_coinsOf 0 = .ok (.aload_n 0, 1) := dk_42 (dk_at dksX3_coinsOf_0 0 rfl rfl)
theorem dX3_coinsOf_1 : decode cX3_coinsOf 1 = .ok (.iload_n 1, 1) := dk_27 (dk_at dksX3_coinsOf_0 1 rfl rfl)
theorem dX3_coinsOf_2 : decode cX3_coinsOf 2 = .ok (.invokevirtual 81, 3) := dk_182 0 81 (dk_at dksX3_coinsOf_0 2 rfl rfl)
theorem dX3_coinsOf_5 : decode cX3_coinsOf 5 = .ok (.ifCond .eq 7, 3) := dk_153 0 7 (dk_at dksX3_coinsOf_0 5 rfl rfl)
theorem dX3_coinsOf_8 : decode cX3_coinsOf 8 = .ok (.iconst 0, 1) := dk_3 (dk_at dksX3_coinsOf_0 8 rfl rfl)
theorem dX3_coinsOf_9 : decode cX3_coinsOf 9 = .ok (.goto 15, 3) := dk_167 0 15 (dk_at dksX3_coinsOf_0 9 rfl rfl)
theorem dX3_coinsOf_12 : decode cX3_coinsOf 12 = .ok (.aload_n 0, 1) := dk_42 (dk_at dksX3_coinsOf_0 12 rfl rfl)
theorem dX3_coinsOf_13 : decode cX3_coinsOf 13 = .ok (.iload_n 1, 1) := dk_27 (dk_at dksX3_coinsOf_0 13 rfl rfl)
theorem dX3_coinsOf_14 : decode cX3_coinsOf 14 = .ok (.invokevirtual 84, 3) := dk_182 0 84 (dk_at dksX3_coinsOf_0 14 rfl rfl)
theorem dX3_coinsOf_17 : decode cX3_coinsOf 17 = .ok (.aload_n 0, 1) := dk_42 (dk_at dksX3_coinsOf_0 17 rfl rfl)
theorem dX3_coinsOf_18 : decode cX3_coinsOf 18 = .ok (.iload_n 1, 1) := dk_27 (dk_at dksX3_coinsOf_0 18 rfl rfl)
theorem dX3_coinsOf_19 : decode cX3_coinsOf 19 = .ok (.iconst 3, 1) := dk_6 (dk_at dksX3_coinsOf_0 19 rfl rfl)
theorem dX3_coinsOf_20 : decode cX3_coinsOf 20 = .ok (.invokevirtual 78, 3) := dk_182 0 78 (dk_at dksX3_coinsOf_0 20 rfl rfl)
theorem dX3_coinsOf_23 : decode cX3_coinsOf 23 = .ok (.imul, 1) := dk_104 (dk_at dksX3_coinsOf_0 23 rfl rfl)
theorem dX3_coinsOf_24 : decode cX3_coinsOf 24 = .ok (.ireturn, 1) := dk_172 (dk_at dksX3_coinsOf_1 0 rfl rfl)
abbrev cX3_minutesOf : ByteArray := prog_16_method_22_code
def yX3_minutesOf : MethodName := ⟨RX3, "minutesOf", "(I)I"⟩
def dkwX3_minutesOf_0 : List UInt8 := [42, 27, 5, 182, 0, 78, 42, 27, 4, 182, 0, 78, 100, 172]
abbrev dktX3_minutesOf_0 : List UInt8 := dkwX3_minutesOf_0 ++ []
theorem dksX3_minutesOf_0 : cX3_minutesOf.data.toList.drop 0 = dktX3_minutesOf_0 := by decide +kernel
theorem dX3_minutesOf_0 : decode cX3_minutesOf 0 = .ok (.aload_n 0, 1) := dk_42 (dk_at dksX3_minutesOf_0 0 rfl rfl)
theorem dX3_minutesOf_1 : decode cX3_minutesOf 1 = .ok (.iload_n 1, 1) := dk_27 (dk_at dksX3_minutesOf_0 1 rfl rfl)
theorem dX3_minutesOf_2 : decode cX3_minutesOf 2 = .ok (.iconst 2, 1) := dk_5 (dk_at dksX3_minutesOf_0 2 rfl rfl)
theorem dX3_minutesOf_3 : decode cX3_minutesOf 3 = .ok (.invokevirtual 78, 3) := dk_182 0 78 (dk_at dksX3_minutesOf_0 3 rfl rfl)
theorem dX3_minutesOf_6 : decode cX3_minutesOf 6 = .ok (.aload_n 0, 1) := dk_42 (dk_at dksX3_minutesOf_0 6 rfl rfl)
theorem dX3_minutesOf_7 : decode cX3_minutesOf 7 = .ok (.iload_n 1, 1) := dk_27 (dk_at dksX3_minutesOf_0 7 rfl rfl)
theorem dX3_minutesOf_8 : decode cX3_minutesOf 8 = .ok (.iconst 1, 1) := dk_4 (dk_at dksX3_minutesOf_0 8 rfl rfl)
theorem dX3_minutesOf_9 : decode cX3_minutesOf 9 = .ok (.invokevirtual 78, 3) := dk_182 0 78 (dk_at dksX3_minutesOf_0 9 rfl rfl)
theorem dX3_minutesOf_12 : decode cX3_minutesOf 12 = .ok (.isub, 1) := dk_100 (dk_at dksX3_minutesOf_0 12 rfl rfl)
theorem dX3_minutesOf_13 : decode cX3_minutesOf 13 = .ok (.ireturn, 1) := dk_172 (dk_at dksX3_minutesOf_0 13 rfl rfl)
abbrev cX3_move : ByteArray := prog_16_method_34_code
def yX3_move : MethodName := ⟨RX3, "move", "(II)I"⟩
def dkwX3_move_2 : List UInt8 := [172, 42, 42, 27, 28, 182, 0, 139, 6, 182, 0, 99, 172]
abbrev dktX3_move_2 : List UInt8 := dkwX3_move_2 ++ []
def dkwX3_move_1 : List UInt8 := [154, 0, 23, 42, 28, 184, 0, 136, 154, 0, 7, 4, 167, 0, 4, 3, 5, 182, 0, 91, 153, 0, 5, 3]
abbrev dktX3_move_1 : List UInt8 := dkwX3_move_1 ++ dktX3_move_2
def dkwX3_move_0 : List UInt8 := [42, 182, 0, 88, 42, 42, 27, 182, 0, 124, 154, 0, 7, 4, 167, 0, 4, 3, 4, 182, 0, 91]
abbrev dktX3_move_0 : List UInt8 := dkwX3_move_0 ++ dktX3_move_1
theorem dksX3_move_0 : cX3_move.data.toList.drop 0 = dktX3_move_0 := by decide +kernel
theorem dksX3_move_1 : cX3_move.data.toList.drop 22 = dktX3_move_1 := dk_seg dksX3_move_0 22 rfl rfl
theorem dksX3_move_2 : cX3_move.data.toList.drop 46 = dktX3_move_2 := dk_seg dksX3_move_1 24 rfl rfl
theorem dX3_move_0 : decode cX3_move 0 = .ok (.aload_n 0, 1) := dk_42 (dk_at dksX3_move_0 0 rfl rfl)
theorem dX3_move_1 : decode cX3_move 1 = .ok (.invokevirtual 88, 3) := dk_182 0 88 (dk_at dksX3_move_0 1 rfl rfl)
theorem dX3_move_4 : decode cX3_move 4 = .ok (.aload_n 0, 1) := dk_42 (dk_at dksX3_move_0 4 rfl rfl)
theorem dX3_move_5 : decode cX3_move 5 = .ok (.aload_n 0, 1) := dk_42 (dk_at dksX3_move_0 5 rfl rfl)
theorem dX3_move_6 : decode cX3_move 6 = .ok (.iload_n 1, 1) := dk_27 (dk_at dksX3_move_0 6 rfl rfl)
theorem dX3_move_7 : decode cX3_move 7 = .ok (.invokevirtual 124, 3) := dk_182 0 124 (dk_at dksX3_move_0 7 rfl rfl)
theorem dX3_move_10 : decode cX3_move 10 = .ok (.ifCond .ne 7, 3) := dk_154 0 7 (dk_at dksX3_move_0 10 rfl rfl)
theorem dX3_move_13 : decode cX3_move 13 = .ok (.iconst 1, 1) := dk_4 (dk_at dksX3_move_0 13 rfl rfl)
theorem dX3_move_14 : decode cX3_move 14 = .ok (.goto 4, 3) := dk_167 0 4 (dk_at dksX3_move_0 14 rfl rfl)
theorem dX3_move_17 : decode cX3_move 17 = .ok (.iconst 0, 1) := dk_3 (dk_at dksX3_move_0 17 rfl rfl)
theorem dX3_move_18 : decode cX3_move 18 = .ok (.iconst 1, 1) := dk_4 (dk_at dksX3_move_0 18 rfl rfl)
theorem dX3_move_19 : decode cX3_move 19 = .ok (.invokevirtual 91, 3) := dk_182 0 91 (dk_at dksX3_move_0 19 rfl rfl)
theorem dX3_move_22 : decode cX3_move 22 = .ok (.ifCond .ne 23, 3) := dk_154 0 23 (dk_at dksX3_move_1 0 rfl rfl)
theorem dX3_move_25 : decode cX3_move 25 = .ok (.aload_n 0, 1) := dk_42 (dk_at dksX3_move_1 3 rfl rfl)
theorem dX3_move_26 : decode cX3_move 26 = .ok (.iload_n 2, 1) := dk_28 (dk_at dksX3_move_1 4 rfl rfl)
theorem dX3_move_27 : decode cX3_move 27 = .ok (.invokestatic 136, 3) := dk_184 0 136 (dk_at dksX3_move_1 5 rfl rfl)
theorem dX3_move_30 : decode cX3_move 30 = .ok (.ifCond .ne 7, 3) := dk_154 0 7 (dk_at dksX3_move_1 8 rfl rfl)
theorem dX3_move_33 : decode cX3_move 33 = .ok (.iconst 1, 1) := dk_4 (dk_at dksX3_move_1 11 rfl rfl)
theorem dX3_move_34 : decode cX3_move 34 = .ok (.goto 4, 3) := dk_167 0 4 (dk_at dksX3_move_1 12 rfl rfl)
theorem dX3_move_37 : decode cX3_move 37 = .ok (.iconst 0, 1) := dk_3 (dk_at dksX3_move_1 15 rfl rfl)
theorem dX3_move_38 : decode cX3_move 38 = .ok (.iconst 2, 1) := dk_5 (dk_at dksX3_move_1 16 rfl rfl)
theorem dX3_move_39 : decode cX3_move 39 = .ok (.invokevirtual 91, 3) := dk_182 0 91 (dk_at dksX3_move_1 17 rfl rfl)
theorem dX3_move_42 : decode cX3_move 42 = .ok (.ifCond .eq 5, 3) := dk_153 0 5 (dk_at dksX3_move_1 20 rfl rfl)
theorem dX3_move_45 : decode cX3_move 45 = .ok (.iconst 0, 1) := dk_3 (dk_at dksX3_move_1 23 rfl rfl)
theorem dX3_move_46 : decode cX3_move 46 = .ok (.ireturn, 1) := dk_172 (dk_at dksX3_move_2 0 rfl rfl)
theorem dX3_move_47 : decode cX3_move 47 = .ok (.aload_n 0, 1) := dk_42 (dk_at dksX3_move_2 1 rfl rfl)
theorem dX3_move_48 : decode cX3_move 48 = .ok (.aload_n 0, 1) := dk_42 (dk_at dksX3_move_2 2 rfl rfl)
theorem dX3_move_49 : decode cX3_move 49 = .ok (.iload_n 1, 1) := dk_27 (dk_at dksX3_move_2 3 rfl rfl)
theorem dX3_move_50 : decode cX3_move 50 = .ok (.iload_n 2, 1) := dk_28 (dk_at dksX3_move_2 4 rfl rfl)
theorem dX3_move_51 : decode cX3_move 51 = .ok (.invokevirtual 139, 3) := dk_182 0 139 (dk_at dksX3_move_2 5 rfl rfl)
theorem dX3_move_54 : decode cX3_move 54 = .ok (.iconst 3, 1) := dk_6 (dk_at dksX3_move_2 8 rfl rfl)
theorem dX3_move_55 : decode cX3_move 55 = .ok (.invokevirtual 99, 3) := dk_182 0 99 (dk_at dksX3_move_2 9 rfl rfl)
theorem dX3_move_58 : decode cX3_move 58 = .ok (.ireturn, 1) := dk_172 (dk_at dksX3_move_2 12 rfl rfl)
abbrev cX3_isBy : ByteArray := prog_16_method_32_code
def yX3_isBy : MethodName := ⟨RX3, "isBy", "(I)Z"⟩
def dkwX3_isBy_0 : List UInt8 := [26, 17, 253, 169, 17, 2, 87, 184, 0, 70, 172]
abbrev dktX3_isBy_0 : List UInt8 := dkwX3_isBy_0 ++ []
theorem dksX3_isBy_0 : cX3_isBy.data.toList.drop 0 = dktX3_isBy_0 := by decide +kernel
theorem dX3_isBy_0 : decode cX3_isBy 0 = .ok (.iload_n 0, 1) := dk_26 (dk_at dksX3_isBy_0 0 rfl rfl)
theorem dX3_isBy_1 : decode cX3_isBy 1 = .ok (.sipush (-599), 3) := dk_17 253 169 (dk_at dksX3_isBy_0 1 rfl rfl)
theorem dX3_isBy_4 : decode cX3_isBy 4 = .ok (.sipush 599, 3) := dk_17 2 87 (dk_at dksX3_isBy_0 4 rfl rfl)
theorem dX3_isBy_7 : decode cX3_isBy 7 = .ok (.invokestatic 70, 3) := dk_184 0 70 (dk_at dksX3_isBy_0 7 rfl rfl)
theorem dX3_isBy_10 : decode cX3_isBy 10 = .ok (.ireturn, 1) := dk_172 (dk_at dksX3_isBy_0 10 rfl rfl)
abbrev cX3_moves : ByteArray := prog_16_method_33_code
def yX3_moves : MethodName := ⟨RX3, "moves", "(II)I"⟩
def dkwX3_moves_6 : List UInt8 := [184, 0, 63, 21, 4, 79, 29, 172]
abbrev dktX3_moves_6 : List UInt8 := dkwX3_moves_6 ++ []
def dkwX3_moves_5 : List UInt8 := [153, 0, 5, 3, 172, 42, 180, 0, 9, 27, 4, 184, 0, 63, 29, 79, 42, 180, 0, 9, 27, 5]
abbrev dktX3_moves_5 : List UInt8 := dkwX3_moves_5 ++ dktX3_moves_6
def dkwX3_moves_4 : List UInt8 := [182, 0, 102, 54, 7, 42, 21, 7, 155, 0, 7, 4, 167, 0, 4, 3, 6, 21, 7, 182, 0, 95]
abbrev dktX3_moves_4 : List UInt8 := dkwX3_moves_4 ++ dktX3_moves_5
def dkwX3_moves_3 : List UInt8 := [3, 8, 21, 6, 182, 0, 95, 153, 0, 5, 3, 172, 42, 42, 27, 3, 182, 0, 78, 29, 21, 4, 27]
abbrev dktX3_moves_3 : List UInt8 := dkwX3_moves_3 ++ dktX3_moves_4
def dkwX3_moves_2 : List UInt8 := [184, 0, 133, 54, 5, 21, 4, 29, 100, 21, 5, 100, 54, 6, 42, 21, 6, 158, 0, 7, 4, 167, 0, 4]
abbrev dktX3_moves_2 : List UInt8 := dkwX3_moves_2 ++ dktX3_moves_3
def dkwX3_moves_1 : List UInt8 := [182, 0, 78, 28, 96, 54, 4, 3, 17, 2, 88, 21, 4, 184, 0, 130, 3, 29, 184, 0, 133, 100]
abbrev dktX3_moves_1 : List UInt8 := dkwX3_moves_1 ++ dktX3_moves_2
def dkwX3_moves_0 : List UInt8 := [42, 27, 182, 0, 118, 153, 0, 5, 3, 172, 42, 27, 4, 182, 0, 78, 28, 96, 62, 42, 27, 5]
abbrev dktX3_moves_0 : List UInt8 := dkwX3_moves_0 ++ dktX3_moves_1
theorem dksX3_moves_0 : cX3_moves.data.toList.drop 0 = dktX3_moves_0 := by decide +kernel
theorem dksX3_moves_1 : cX3_moves.data.toList.drop 22 = dktX3_moves_1 := dk_seg dksX3_moves_0 22 rfl rfl
theorem dksX3_moves_2 : cX3_moves.data.toList.drop 44 = dktX3_moves_2 := dk_seg dksX3_moves_1 22 rfl rfl
theorem dksX3_moves_3 : cX3_moves.data.toList.drop 68 = dktX3_moves_3 := dk_seg dksX3_moves_2 24 rfl rfl
theorem dksX3_moves_4 : cX3_moves.data.toList.drop 91 = dktX3_moves_4 := dk_seg dksX3_moves_3 23 rfl rfl
theorem dksX3_moves_5 : cX3_moves.data.toList.drop 113 = dktX3_moves_5 := dk_seg dksX3_moves_4 22 rfl rfl
theorem dksX3_moves_6 : cX3_moves.data.toList.drop 135 = dktX3_moves_6 := dk_seg dksX3_moves_5 22 rfl rfl
theorem dX3_moves_0 : decode cX3_moves 0 = .ok (.aload_n 0, 1) := dk_42 (dk_at dksX3_moves_0 0 rfl rfl)
theorem dX3_moves_1 : decode cX3_moves 1 = .ok (.iload_n 1, 1) := dk_27 (dk_at dksX3_moves_0 1 rfl rfl)
theorem dX3_moves_2 : decode cX3_moves 2 = .ok (.invokevirtual 118, 3) := dk_182 0 118 (dk_at dksX3_moves_0 2 rfl rfl)
theorem dX3_moves_5 : decode cX3_moves 5 = .ok (.ifCond .eq 5, 3) := dk_153 0 5 (dk_at dksX3_moves_0 5 rfl rfl)
theorem dX3_moves_8 : decode cX3_moves 8 = .ok (.iconst 0, 1) := dk_3 (dk_at dksX3_moves_0 8 rfl rfl)
theorem dX3_moves_9 : decode cX3_moves 9 = .ok (.ireturn, 1) := dk_172 (dk_at dksX3_moves_0 9 rfl rfl)
theorem dX3_moves_10 : decode cX3_moves 10 = .ok (.aload_n 0, 1) := dk_42 (dk_at dksX3_moves_0 10 rfl rfl)
theorem dX3_moves_11 : decode cX3_moves 11 = .ok (.iload_n 1, 1) := dk_27 (dk_at dksX3_moves_0 11 rfl rfl)
theorem dX3_moves_12 : decode cX3_moves 12 = .ok (.iconst 1, 1) := dk_4 (dk_at dksX3_moves_0 12 rfl rfl)
theorem dX3_moves_13 : decode cX3_moves 13 = .ok (.invokevirtual 78, 3) := dk_182 0 78 (dk_at dksX3_moves_0 13 rfl rfl)
theorem dX3_moves_16 : decode cX3_moves 16 = .ok (.iload_n 2, 1) := dk_28 (dk_at dksX3_moves_0 16 rfl rfl)
theorem dX3_moves_17 : decode cX3_moves 17 = .ok (.iadd, 1) := dk_96 (dk_at dksX3_moves_0 17 rfl rfl)
theorem dX3_moves_18 : decode cX3_moves 18 = .ok (.istore_n 3, 1) := dk_62 (dk_at dksX3_moves_0 18 rfl rfl)
theorem dX3_moves_19 : decode cX3_moves 19 = .ok (.aload_n 0, 1) := dk_42 (dk_at dksX3_moves_0 19 rfl rfl)
theorem dX3_moves_20 : decode cX3_moves 20 = .ok (.iload_n 1, 1) := dk_27 (dk_at dksX3_moves_0 20 rfl rfl)
theorem dX3_moves_21 : decode cX3_moves 21 = .ok (.iconst 2, 1) := dk_5 (dk_at dksX3_moves_0 21 rfl rfl)
theorem dX3_moves_22 : decode cX3_moves 22 = .ok (.invokevirtual 78, 3) := dk_182 0 78 (dk_at dksX3_moves_1 0 rfl rfl)
theorem dX3_moves_25 : decode cX3_moves 25 = .ok (.iload_n 2, 1) := dk_28 (dk_at dksX3_moves_1 3 rfl rfl)
theorem dX3_moves_26 : decode cX3_moves 26 = .ok (.iadd, 1) := dk_96 (dk_at dksX3_moves_1 4 rfl rfl)
theorem dX3_moves_27 : decode cX3_moves 27 = .ok (.istore 4, 2) := dk_54 4 (dk_at dksX3_moves_1 5 rfl rfl)
theorem dX3_moves_29 : decode cX3_moves 29 = .ok (.iconst 0, 1) := dk_3 (dk_at dksX3_moves_1 7 rfl rfl)
theorem dX3_moves_30 : decode cX3_moves 30 = .ok (.sipush 600, 3) := dk_17 2 88 (dk_at dksX3_moves_1 8 rfl rfl)
theorem dX3_moves_33 : decode cX3_moves 33 = .ok (.iload 4, 2) := dk_21 4 (dk_at dksX3_moves_1 11 rfl rfl)
theorem dX3_moves_35 : decode cX3_moves 35 = .ok (.invokestatic 130, 3) := dk_184 0 130 (dk_at dksX3_moves_1 13 rfl rfl)
theorem dX3_moves_38 : decode cX3_moves 38 = .ok (.iconst 0, 1) := dk_3 (dk_at dksX3_moves_1 16 rfl rfl)
theorem dX3_moves_39 : decode cX3_moves 39 = .ok (.iload_n 3, 1) := dk_29 (dk_at dksX3_moves_1 17 rfl rfl)
theorem dX3_moves_40 : decode cX3_moves 40 = .ok (.invokestatic 133, 3) := dk_184 0 133 (dk_at dksX3_moves_1 18 rfl rfl)
theorem dX3_moves_43 : decode cX3_moves 43 = .ok (.isub, 1) := dk_100 (dk_at dksX3_moves_1 21 rfl rfl)
theorem dX3_moves_44 : decode cX3_moves 44 = .ok (.invokestatic 133, 3) := dk_184 0 133 (dk_at dksX3_moves_2 0 rfl rfl)
theorem dX3_moves_47 : decode cX3_moves 47 = .ok (.istore 5, 2) := dk_54 5 (dk_at dksX3_moves_2 3 rfl rfl)
theorem dX3_moves_49 : decode cX3_moves 49 = .ok (.iload 4, 2) := dk_21 4 (dk_at dksX3_moves_2 5 rfl rfl)
theorem dX3_moves_51 : decode cX3_moves 51 = .ok (.iload_n 3, 1) := dk_29 (dk_at dksX3_moves_2 7 rfl rfl)
theorem dX3_moves_52 : decode cX3_moves 52 = .ok (.isub, 1) := dk_100 (dk_at dksX3_moves_2 8 rfl rfl)
theorem dX3_moves_53 : decode cX3_moves 53 = .ok (.iload 5, 2) := dk_21 5 (dk_at dksX3_moves_2 9 rfl rfl)
theorem dX3_moves_55 : decode cX3_moves 55 = .ok (.isub, 1) := dk_100 (dk_at dksX3_moves_2 11 rfl rfl)
theorem dX3_moves_56 : decode cX3_moves 56 = .ok (.istore 6, 2) := dk_54 6 (dk_at dksX3_moves_2 12 rfl rfl)
theorem dX3_moves_58 : decode cX3_moves 58 = .ok (.aload_n 0, 1) := dk_42 (dk_at dksX3_moves_2 14 rfl rfl)
theorem dX3_moves_59 : decode cX3_moves 59 = .ok (.iload 6, 2) := dk_21 6 (dk_at dksX3_moves_2 15 rfl rfl)
theorem dX3_moves_61 : decode cX3_moves 61 = .ok (.ifCond .le 7, 3) := dk_158 0 7 (dk_at dksX3_moves_2 17 rfl rfl)
theorem dX3_moves_64 : decode cX3_moves 64 = .ok (.iconst 1, 1) := dk_4 (dk_at dksX3_moves_2 20 rfl rfl)
theorem dX3_moves_65 : decode cX3_moves 65 = .ok (.goto 4, 3) := dk_167 0 4 (dk_at dksX3_moves_2 21 rfl rfl)
theorem dX3_moves_68 : decode cX3_moves 68 = .ok (.iconst 0, 1) := dk_3 (dk_at dksX3_moves_3 0 rfl rfl)
theorem dX3_moves_69 : decode cX3_moves 69 = .ok (.iconst 5, 1) := dk_8 (dk_at dksX3_moves_3 1 rfl rfl)
theorem dX3_moves_70 : decode cX3_moves 70 = .ok (.iload 6, 2) := dk_21 6 (dk_at dksX3_moves_3 2 rfl rfl)
theorem dX3_moves_72 : decode cX3_moves 72 = .ok (.invokevirtual 95, 3) := dk_182 0 95 (dk_at dksX3_moves_3 4 rfl rfl)
theorem dX3_moves_75 : decode cX3_moves 75 = .ok (.ifCond .eq 5, 3) := dk_153 0 5 (dk_at dksX3_moves_3 7 rfl rfl)
theorem dX3_moves_78 : decode cX3_moves 78 = .ok (.iconst 0, 1) := dk_3 (dk_at dksX3_moves_3 10 rfl rfl)
theorem dX3_moves_79 : decode cX3_moves 79 = .ok (.ireturn, 1) := dk_172 (dk_at dksX3_moves_3 11 rfl rfl)
theorem dX3_moves_80 : decode cX3_moves 80 = .ok (.aload_n 0, 1) := dk_42 (dk_at dksX3_moves_3 12 rfl rfl)
theorem dX3_moves_81 : decode cX3_moves 81 = .ok (.aload_n 0, 1) := dk_42 (dk_at dksX3_moves_3 13 rfl rfl)
theorem dX3_moves_82 : decode cX3_moves 82 = .ok (.iload_n 1, 1) := dk_27 (dk_at dksX3_moves_3 14 rfl rfl)
theorem dX3_moves_83 : decode cX3_moves 83 = .ok (.iconst 0, 1) := dk_3 (dk_at dksX3_moves_3 15 rfl rfl)
theorem dX3_moves_84 : decode cX3_moves 84 = .ok (.invokevirtual 78, 3) := dk_182 0 78 (dk_at dksX3_moves_3 16 rfl rfl)
theorem dX3_moves_87 : decode cX3_moves 87 = .ok (.iload_n 3, 1) := dk_29 (dk_at dksX3_moves_3 19 rfl rfl)
theorem dX3_moves_88 : decode cX3_moves 88 = .ok (.iload 4, 2) := dk_21 4 (dk_at dksX3_moves_3 20 rfl rfl)
theorem dX3_moves_90 : decode cX3_moves 90 = .ok (.iload_n 1, 1) := dk_27 (dk_at dksX3_moves_3 22 rfl rfl)
theorem dX3_moves_91 : decode cX3_moves 91 = .ok (.invokevirtual 102, 3) := dk_182 0 102 (dk_at dksX3_moves_4 0 rfl rfl)
theorem dX3_moves_94 : decode cX3_moves 94 = .ok (.istore 7, 2) := dk_54 7 (dk_at dksX3_moves_4 3 rfl rfl)
theorem dX3_moves_96 : decode cX3_moves 96 = .ok (.aload_n 0, 1) := dk_42 (dk_at dksX3_moves_4 5 rfl rfl)
theorem dX3_moves_97 : decode cX3_moves 97 = .ok (.iload 7, 2) := dk_21 7 (dk_at dksX3_moves_4 6 rfl rfl)
theorem dX3_moves_99 : decode cX3_moves 99 = .ok (.ifCond .lt 7, 3) := dk_155 0 7 (dk_at dksX3_moves_4 8 rfl rfl)
theorem dX3_moves_102 : decode cX3_moves 102 = .ok (.iconst 1, 1) := dk_4 (dk_at dksX3_moves_4 11 rfl rfl)
theorem dX3_moves_103 : decode cX3_moves 103 = .ok (.goto 4, 3) := dk_167 0 4 (dk_at dksX3_moves_4 12 rfl rfl)
theorem dX3_moves_106 : decode cX3_moves 106 = .ok (.iconst 0, 1) := dk_3 (dk_at dksX3_moves_4 15 rfl rfl)
theorem dX3_moves_107 : decode cX3_moves 107 = .ok (.iconst 3, 1) := dk_6 (dk_at dksX3_moves_4 16 rfl rfl)
theorem dX3_moves_108 : decode cX3_moves 108 = .ok (.iload 7, 2) := dk_21 7 (dk_at dksX3_moves_4 17 rfl rfl)
theorem dX3_moves_110 : decode cX3_moves 110 = .ok (.invokevirtual 95, 3) := dk_182 0 95 (dk_at dksX3_moves_4 19 rfl rfl)
theorem dX3_moves_113 : decode cX3_moves 113 = .ok (.ifCond .eq 5, 3) := dk_153 0 5 (dk_at dksX3_moves_5 0 rfl rfl)
theorem dX3_moves_116 : decode cX3_moves 116 = .ok (.iconst 0, 1) := dk_3 (dk_at dksX3_moves_5 3 rfl rfl)
theorem dX3_moves_117 : decode cX3_moves 117 = .ok (.ireturn, 1) := dk_172 (dk_at dksX3_moves_5 4 rfl rfl)
theorem dX3_moves_118 : decode cX3_moves 118 = .ok (.aload_n 0, 1) := dk_42 (dk_at dksX3_moves_5 5 rfl rfl)
theorem dX3_moves_119 : decode cX3_moves 119 = .ok (.getfield 9, 3) := dk_180 0 9 (dk_at dksX3_moves_5 6 rfl rfl)
theorem dX3_moves_122 : decode cX3_moves 122 = .ok (.iload_n 1, 1) := dk_27 (dk_at dksX3_moves_5 9 rfl rfl)
theorem dX3_moves_123 : decode cX3_moves 123 = .ok (.iconst 1, 1) := dk_4 (dk_at dksX3_moves_5 10 rfl rfl)
theorem dX3_moves_124 : decode cX3_moves 124 = .ok (.invokestatic 63, 3) := dk_184 0 63 (dk_at dksX3_moves_5 11 rfl rfl)
theorem dX3_moves_127 : decode cX3_moves 127 = .ok (.iload_n 3, 1) := dk_29 (dk_at dksX3_moves_5 14 rfl rfl)
theorem dX3_moves_128 : decode cX3_moves 128 = .ok (.iastore, 1) := dk_79 (dk_at dksX3_moves_5 15 rfl rfl)
theorem dX3_moves_129 : decode cX3_moves 129 = .ok (.aload_n 0, 1) := dk_42 (dk_at dksX3_moves_5 16 rfl rfl)
theorem dX3_moves_130 : decode cX3_moves 130 = .ok (.getfield 9, 3) := dk_180 0 9 (dk_at dksX3_moves_5 17 rfl rfl)
theorem dX3_moves_133 : decode cX3_moves 133 = .ok (.iload_n 1, 1) := dk_27 (dk_at dksX3_moves_5 20 rfl rfl)
theorem dX3_moves_134 : decode cX3_moves 134 = .ok (.iconst 2, 1) := dk_5 (dk_at dksX3_moves_5 21 rfl rfl)
theorem dX3_moves_135 : decode cX3_moves 135 = .ok (.invokestatic 63, 3) := dk_184 0 63 (dk_at dksX3_moves_6 0 rfl rfl)
theorem dX3_moves_138 : decode cX3_moves 138 = .ok (.iload 4, 2) := dk_21 4 (dk_at dksX3_moves_6 3 rfl rfl)
theorem dX3_moves_140 : decode cX3_moves 140 = .ok (.iastore, 1) := dk_79 (dk_at dksX3_moves_6 5 rfl rfl)
theorem dX3_moves_141 : decode cX3_moves 141 = .ok (.iload_n 3, 1) := dk_29 (dk_at dksX3_moves_6 6 rfl rfl)
theorem dX3_moves_142 : decode cX3_moves 142 = .ok (.ireturn, 1) := dk_172 (dk_at dksX3_moves_6 7 rfl rfl)
abbrev cX3_lesser : ByteArray := prog_16_method_4_code
def yX3_lesser : MethodName := ⟨RX3, "lesser", "(II)I"⟩
def dkwX3_lesser_0 : List UInt8 := [26, 27, 162, 0, 7, 26, 167, 0, 4, 27, 172]
abbrev dktX3_lesser_0 : List UInt8 := dkwX3_lesser_0 ++ []
theorem dksX3_lesser_0 : cX3_lesser.data.toList.drop 0 = dktX3_lesser_0 := by decide +kernel
theorem dX3_lesser_0 : decode cX3_lesser 0 = .ok (.iload_n 0, 1) := dk_26 (dk_at dksX3_lesser_0 0 rfl rfl)
theorem dX3_lesser_1 : decode cX3_lesser 1 = .ok (.iload_n 1, 1) := dk_27 (dk_at dksX3_lesser_0 1 rfl rfl)
theorem dX3_lesser_2 : decode cX3_lesser 2 = .ok (.if_icmp .ge 7, 3) := dk_162 0 7 (dk_at dksX3_lesser_0 2 rfl rfl)
theorem dX3_lesser_5 : decode cX3_lesser 5 = .ok (.iload_n 0, 1) := dk_26 (dk_at dksX3_lesser_0 5 rfl rfl)
theorem dX3_lesser_6 : decode cX3_lesser 6 = .ok (.goto 4, 3) := dk_167 0 4 (dk_at dksX3_lesser_0 6 rfl rfl)
theorem dX3_lesser_9 : decode cX3_lesser 9 = .ok (.iload_n 1, 1) := dk_27 (dk_at dksX3_lesser_0 9 rfl rfl)
theorem dX3_lesser_10 : decode cX3_lesser 10 = .ok (.ireturn, 1) := dk_172 (dk_at dksX3_lesser_0 10 rfl rfl)
abbrev cX3_greater : ByteArray := prog_16_method_5_code
def yX3_greater : MethodName := ⟨RX3, "greater", "(II)I"⟩
def dkwX3_greater_0 : List UInt8 := [26, 27, 164, 0, 7, 26, 167, 0, 4, 27, 172]
abbrev dktX3_greater_0 : List UInt8 := dkwX3_greater_0 ++ []
theorem dksX3_greater_0 : cX3_greater.data.toList.drop 0 = dktX3_greater_0 := by decide +kernel
theorem dX3_greater_0 : decode cX3_greater 0 = .ok (.iload_n 0, 1) := dk_26 (dk_at dksX3_greater_0 0 rfl rfl)
theorem dX3_greater_1 : decode cX3_greater 1 = .ok (.iload_n 1, 1) := dk_27 (dk_at dksX3_greater_0 1 rfl rfl)
theorem dX3_greater_2 : decode cX3_greater 2 = .ok (.if_icmp .le 7, 3) := dk_164 0 7 (dk_at dksX3_greater_0 2 rfl rfl)
theorem dX3_greater_5 : decode cX3_greater 5 = .ok (.iload_n 0, 1) := dk_26 (dk_at dksX3_greater_0 5 rfl rfl)
theorem dX3_greater_6 : decode cX3_greater 6 = .ok (.goto 4, 3) := dk_167 0 4 (dk_at dksX3_greater_0 6 rfl rfl)
theorem dX3_greater_9 : decode cX3_greater 9 = .ok (.iload_n 1, 1) := dk_27 (dk_at dksX3_greater_0 9 rfl rfl)
theorem dX3_greater_10 : decode cX3_greater 10 = .ok (.ireturn, 1) := dk_172 (dk_at dksX3_greater_0 10 rfl rfl)
abbrev cX3_split : ByteArray := prog_16_method_36_code
def yX3_split : MethodName := ⟨RX3, "split", "(II)I"⟩
def dkwX3_split_1 : List UInt8 := [153, 0, 5, 3, 172, 42, 42, 27, 28, 182, 0, 142, 5, 182, 0, 99, 172]
abbrev dktX3_split_1 : List UInt8 := dkwX3_split_1 ++ []
def dkwX3_split_0 : List UInt8 := [42, 182, 0, 88, 42, 42, 27, 182, 0, 124, 154, 0, 7, 4, 167, 0, 4, 3, 4, 182, 0, 91]
abbrev dktX3_split_0 : List UInt8 := dkwX3_split_0 ++ dktX3_split_1
theorem dksX3_split_0 : cX3_split.data.toList.drop 0 = dktX3_split_0 := by decide +kernel
theorem dksX3_split_1 : cX3_split.data.toList.drop 22 = dktX3_split_1 := dk_seg dksX3_split_0 22 rfl rfl
theorem dX3_split_0 : decode cX3_split 0 = .ok (.aload_n 0, 1) := dk_42 (dk_at dksX3_split_0 0 rfl rfl)
theorem dX3_split_1 : decode cX3_split 1 = .ok (.invokevirtual 88, 3) := dk_182 0 88 (dk_at dksX3_split_0 1 rfl rfl)
theorem dX3_split_4 : decode cX3_split 4 = .ok (.aload_n 0, 1) := dk_42 (dk_at dksX3_split_0 4 rfl rfl)
theorem dX3_split_5 : decode cX3_split 5 = .ok (.aload_n 0, 1) := dk_42 (dk_at dksX3_split_0 5 rfl rfl)
theorem dX3_split_6 : decode cX3_split 6 = .ok (.iload_n 1, 1) := dk_27 (dk_at dksX3_split_0 6 rfl rfl)
theorem dX3_split_7 : decode cX3_split 7 = .ok (.invokevirtual 124, 3) := dk_182 0 124 (dk_at dksX3_split_0 7 rfl rfl)
theorem dX3_split_10 : decode cX3_split 10 = .ok (.ifCond .ne 7, 3) := dk_154 0 7 (dk_at dksX3_split_0 10 rfl rfl)
theorem dX3_split_13 : decode cX3_split 13 = .ok (.iconst 1, 1) := dk_4 (dk_at dksX3_split_0 13 rfl rfl)
theorem dX3_split_14 : decode cX3_split 14 = .ok (.goto 4, 3) := dk_167 0 4 (dk_at dksX3_split_0 14 rfl rfl)
theorem dX3_split_17 : decode cX3_split 17 = .ok (.iconst 0, 1) := dk_3 (dk_at dksX3_split_0 17 rfl rfl)
theorem dX3_split_18 : decode cX3_split 18 = .ok (.iconst 1, 1) := dk_4 (dk_at dksX3_split_0 18 rfl rfl)
theorem dX3_split_19 : decode cX3_split 19 = .ok (.invokevirtual 91, 3) := dk_182 0 91 (dk_at dksX3_split_0 19 rfl rfl)
theorem dX3_split_22 : decode cX3_split 22 = .ok (.ifCond .eq 5, 3) := dk_153 0 5 (dk_at dksX3_split_1 0 rfl rfl)
theorem dX3_split_25 : decode cX3_split 25 = .ok (.iconst 0, 1) := dk_3 (dk_at dksX3_split_1 3 rfl rfl)
theorem dX3_split_26 : decode cX3_split 26 = .ok (.ireturn, 1) := dk_172 (dk_at dksX3_split_1 4 rfl rfl)
theorem dX3_split_27 : decode cX3_split 27 = .ok (.aload_n 0, 1) := dk_42 (dk_at dksX3_split_1 5 rfl rfl)
theorem dX3_split_28 : decode cX3_split 28 = .ok (.aload_n 0, 1) := dk_42 (dk_at dksX3_split_1 6 rfl rfl)
theorem dX3_split_29 : decode cX3_split 29 = .ok (.iload_n 1, 1) := dk_27 (dk_at dksX3_split_1 7 rfl rfl)
theorem dX3_split_30 : decode cX3_split 30 = .ok (.iload_n 2, 1) := dk_28 (dk_at dksX3_split_1 8 rfl rfl)
theorem dX3_split_31 : decode cX3_split 31 = .ok (.invokevirtual 142, 3) := dk_182 0 142 (dk_at dksX3_split_1 9 rfl rfl)
theorem dX3_split_34 : decode cX3_split 34 = .ok (.iconst 2, 1) := dk_5 (dk_at dksX3_split_1 12 rfl rfl)
theorem dX3_split_35 : decode cX3_split 35 = .ok (.invokevirtual 99, 3) := dk_182 0 99 (dk_at dksX3_split_1 13 rfl rfl)
theorem dX3_split_38 : decode cX3_split 38 = .ok (.ireturn, 1) := dk_172 (dk_at dksX3_split_1 16 rfl rfl)
abbrev cX3_splits : ByteArray := prog_16_method_35_code
def yX3_splits : MethodName := ⟨RX3, "splits", "(II)I"⟩
def dkwX3_splits_4 : List UInt8 := [28, 79, 42, 42, 27, 3, 182, 0, 78, 42, 27, 6, 182, 0, 78, 28, 29, 182, 0, 106, 172]
abbrev dktX3_splits_4 : List UInt8 := dkwX3_splits_4 ++ []
def dkwX3_splits_3 : List UInt8 := [167, 0, 4, 3, 4, 16, 30, 182, 0, 95, 153, 0, 5, 3, 172, 42, 180, 0, 9, 27, 5, 184, 0, 63]
abbrev dktX3_splits_3 : List UInt8 := dkwX3_splits_3 ++ dktX3_splits_4
def dkwX3_splits_2 : List UInt8 := [27, 182, 0, 84, 182, 0, 95, 154, 0, 29, 42, 42, 180, 0, 9, 4, 46, 16, 30, 160, 0, 7, 4]
abbrev dktX3_splits_2 : List UInt8 := dkwX3_splits_2 ++ dktX3_splits_3
def dkwX3_splits_1 : List UInt8 := [4, 96, 29, 4, 100, 184, 0, 70, 54, 4, 42, 21, 4, 154, 0, 7, 4, 167, 0, 4, 3, 16, 6, 42]
abbrev dktX3_splits_1 : List UInt8 := dkwX3_splits_1 ++ dktX3_splits_2
def dkwX3_splits_0 : List UInt8 := [42, 27, 182, 0, 118, 153, 0, 5, 3, 172, 42, 27, 5, 182, 0, 78, 62, 28, 42, 27, 4, 182, 0, 78]
abbrev dktX3_splits_0 : List UInt8 := dkwX3_splits_0 ++ dktX3_splits_1
theorem dksX3_splits_0 : cX3_splits.data.toList.drop 0 = dktX3_splits_0 := by decide +kernel
theorem dksX3_splits_1 : cX3_splits.data.toList.drop 24 = dktX3_splits_1 := dk_seg dksX3_splits_0 24 rfl rfl
theorem dksX3_splits_2 : cX3_splits.data.toList.drop 48 = dktX3_splits_2 := dk_seg dksX3_splits_1 24 rfl rfl
theorem dksX3_splits_3 : cX3_splits.data.toList.drop 71 = dktX3_splits_3 := dk_seg dksX3_splits_2 23 rfl rfl
theorem dksX3_splits_4 : cX3_splits.data.toList.drop 95 = dktX3_splits_4 := dk_seg dksX3_splits_3 24 rfl rfl
theorem dX3_splits_0 : decode cX3_splits 0 = .ok (.aload_n 0, 1) := dk_42 (dk_at dksX3_splits_0 0 rfl rfl)
theorem dX3_splits_1 : decode cX3_splits 1 = .ok (.iload_n 1, 1) := dk_27 (dk_at dksX3_splits_0 1 rfl rfl)
theorem dX3_splits_2 : decode cX3_splits 2 = .ok (.invokevirtual 118, 3) := dk_182 0 118 (dk_at dksX3_splits_0 2 rfl rfl)
theorem dX3_splits_5 : decode cX3_splits 5 = .ok (.ifCond .eq 5, 3) := dk_153 0 5 (dk_at dksX3_splits_0 5 rfl rfl)
theorem dX3_splits_8 : decode cX3_splits 8 = .ok (.iconst 0, 1) := dk_3 (dk_at dksX3_splits_0 8 rfl rfl)
theorem dX3_splits_9 : decode cX3_splits 9 = .ok (.ireturn, 1) := dk_172 (dk_at dksX3_splits_0 9 rfl rfl)
theorem dX3_splits_10 : decode cX3_splits 10 = .ok (.aload_n 0, 1) := dk_42 (dk_at dksX3_splits_0 10 rfl rfl)
theorem dX3_splits_11 : decode cX3_splits 11 = .ok (.iload_n 1, 1) := dk_27 (dk_at dksX3_splits_0 11 rfl rfl)
theorem dX3_splits_12 : decode cX3_splits 12 = .ok (.iconst 2, 1) := dk_5 (dk_at dksX3_splits_0 12 rfl rfl)
theorem dX3_splits_13 : decode cX3_splits 13 = .ok (.invokevirtual 78, 3) := dk_182 0 78 (dk_at dksX3_splits_0 13 rfl rfl)
theorem dX3_splits_16 : decode cX3_splits 16 = .ok (.istore_n 3, 1) := dk_62 (dk_at dksX3_splits_0 16 rfl rfl)
theorem dX3_splits_17 : decode cX3_splits 17 = .ok (.iload_n 2, 1) := dk_28 (dk_at dksX3_splits_0 17 rfl rfl)
theorem dX3_splits_18 : decode cX3_splits 18 = .ok (.aload_n 0, 1) := dk_42 (dk_at dksX3_splits_0 18 rfl rfl)
theorem dX3_splits_19 : decode cX3_splits 19 = .ok (.iload_n 1, 1) := dk_27 (dk_at dksX3_splits_0 19 rfl rfl)
theorem dX3_splits_20 : decode cX3_splits 20 = .ok (.iconst 1, 1) := dk_4 (dk_at dksX3_splits_0 20 rfl rfl)
theorem dX3_splits_21 : decode cX3_splits 21 = .ok (.invokevirtual 78, 3) := dk_182 0 78 (dk_at dksX3_splits_0 21 rfl rfl)
theorem dX3_splits_24 : decode cX3_splits 24 = .ok (.iconst 1, 1) := dk_4 (dk_at dksX3_splits_1 0 rfl rfl)
theorem dX3_splits_25 : decode cX3_splits 25 = .ok (.iadd, 1) := dk_96 (dk_at dksX3_splits_1 1 rfl rfl)
theorem dX3_splits_26 : decode cX3_splits 26 = .ok (.iload_n 3, 1) := dk_29 (dk_at dksX3_splits_1 2 rfl rfl)
theorem dX3_splits_27 : decode cX3_splits 27 = .ok (.iconst 1, 1) := dk_4 (dk_at dksX3_splits_1 3 rfl rfl)
theorem dX3_splits_28 : decode cX3_splits 28 = .ok (.isub, 1) := dk_100 (dk_at dksX3_splits_1 4 rfl rfl)
theorem dX3_splits_29 : decode cX3_splits 29 = .ok (.invokestatic 70, 3) := dk_184 0 70 (dk_at dksX3_splits_1 5 rfl rfl)
theorem dX3_splits_32 : decode cX3_splits 32 = .ok (.istore 4, 2) := dk_54 4 (dk_at dksX3_splits_1 8 rfl rfl)
theorem dX3_splits_34 : decode cX3_splits 34 = .ok (.aload_n 0, 1) := dk_42 (dk_at dksX3_splits_1 10 rfl rfl)
theorem dX3_splits_35 : decode cX3_splits 35 = .ok (.iload 4, 2) := dk_21 4 (dk_at dksX3_splits_1 11 rfl rfl)
theorem dX3_splits_37 : decode cX3_splits 37 = .ok (.ifCond .ne 7, 3) := dk_154 0 7 (dk_at dksX3_splits_1 13 rfl rfl)
theorem dX3_splits_40 : decode cX3_splits 40 = .ok (.iconst 1, 1) := dk_4 (dk_at dksX3_splits_1 16 rfl rfl)
theorem dX3_splits_41 : decode cX3_splits 41 = .ok (.goto 4, 3) := dk_167 0 4 (dk_at dksX3_splits_1 17 rfl rfl)
theorem dX3_splits_44 : decode cX3_splits 44 = .ok (.iconst 0, 1) := dk_3 (dk_at dksX3_splits_1 20 rfl rfl)
theorem dX3_splits_45 : decode cX3_splits 45 = .ok (.bipush 6, 2) := dk_16 6 (dk_at dksX3_splits_1 21 rfl rfl)
theorem dX3_splits_47 : decode cX3_splits 47 = .ok (.aload_n 0, 1) := dk_42 (dk_at dksX3_splits_1 23 rfl rfl)
theorem dX3_splits_48 : decode cX3_splits 48 = .ok (.iload_n 1, 1) := dk_27 (dk_at dksX3_splits_2 0 rfl rfl)
theorem dX3_splits_49 : decode cX3_splits 49 = .ok (.invokevirtual 84, 3) := dk_182 0 84 (dk_at dksX3_splits_2 1 rfl rfl)
theorem dX3_splits_52 : decode cX3_splits 52 = .ok (.invokevirtual 95, 3) := dk_182 0 95 (dk_at dksX3_splits_2 4 rfl rfl)
theorem dX3_splits_55 : decode cX3_splits 55 = .ok (.ifCond .ne 29, 3) := dk_154 0 29 (dk_at dksX3_splits_2 7 rfl rfl)
theorem dX3_splits_58 : decode cX3_splits 58 = .ok (.aload_n 0, 1) := dk_42 (dk_at dksX3_splits_2 10 rfl rfl)
theorem dX3_splits_59 : decode cX3_splits 59 = .ok (.aload_n 0, 1) := dk_42 (dk_at dksX3_splits_2 11 rfl rfl)
theorem dX3_splits_60 : decode cX3_splits 60 = .ok (.getfield 9, 3) := dk_180 0 9 (dk_at dksX3_splits_2 12 rfl rfl)
theorem dX3_splits_63 : decode cX3_splits 63 = .ok (.iconst 1, 1) := dk_4 (dk_at dksX3_splits_2 15 rfl rfl)
theorem dX3_splits_64 : decode cX3_splits 64 = .ok (.iaload, 1) := dk_46 (dk_at dksX3_splits_2 16 rfl rfl)
theorem dX3_splits_65 : decode cX3_splits 65 = .ok (.bipush 30, 2) := dk_16 30 (dk_at dksX3_splits_2 17 rfl rfl)
theorem dX3_splits_67 : decode cX3_splits 67 = .ok (.if_icmp .ne 7, 3) := dk_160 0 7 (dk_at dksX3_splits_2 19 rfl rfl)
theorem dX3_splits_70 : decode cX3_splits 70 = .ok (.iconst 1, 1) := dk_4 (dk_at dksX3_splits_2 22 rfl rfl)
theorem dX3_splits_71 : decode cX3_splits 71 = .ok (.goto 4, 3) := dk_167 0 4 (dk_at dksX3_splits_3 0 rfl rfl)
theorem dX3_splits_74 : decode cX3_splits 74 = .ok (.iconst 0, 1) := dk_3 (dk_at dksX3_splits_3 3 rfl rfl)
theorem dX3_splits_75 : decode cX3_splits 75 = .ok (.iconst 1, 1) := dk_4 (dk_at dksX3_splits_3 4 rfl rfl)
theorem dX3_splits_76 : decode cX3_splits 76 = .ok (.bipush 30, 2) := dk_16 30 (dk_at dksX3_splits_3 5 rfl rfl)
theorem dX3_splits_78 : decode cX3_splits 78 = .ok (.invokevirtual 95, 3) := dk_182 0 95 (dk_at dksX3_splits_3 7 rfl rfl)
theorem dX3_splits_81 : decode cX3_splits 81 = .ok (.ifCond .eq 5, 3) := dk_153 0 5 (dk_at dksX3_splits_3 10 rfl rfl)
theorem dX3_splits_84 : decode cX3_splits 84 = .ok (.iconst 0, 1) := dk_3 (dk_at dksX3_splits_3 13 rfl rfl)
theorem dX3_splits_85 : decode cX3_splits 85 = .ok (.ireturn, 1) := dk_172 (dk_at dksX3_splits_3 14 rfl rfl)
theorem dX3_splits_86 : decode cX3_splits 86 = .ok (.aload_n 0, 1) := dk_42 (dk_at dksX3_splits_3 15 rfl rfl)
theorem dX3_splits_87 : decode cX3_splits 87 = .ok (.getfield 9, 3) := dk_180 0 9 (dk_at dksX3_splits_3 16 rfl rfl)
theorem dX3_splits_90 : decode cX3_splits 90 = .ok (.iload_n 1, 1) := dk_27 (dk_at dksX3_splits_3 19 rfl rfl)
theorem dX3_splits_91 : decode cX3_splits 91 = .ok (.iconst 2, 1) := dk_5 (dk_at dksX3_splits_3 20 rfl rfl)
theorem dX3_splits_92 : decode cX3_splits 92 = .ok (.invokestatic 63, 3) := dk_184 0 63 (dk_at dksX3_splits_3 21 rfl rfl)
theorem dX3_splits_95 : decode cX3_splits 95 = .ok (.iload_n 2, 1) := dk_28 (dk_at dksX3_splits_4 0 rfl rfl)
theorem dX3_splits_96 : decode cX3_splits 96 = .ok (.iastore, 1) := dk_79 (dk_at dksX3_splits_4 1 rfl rfl)
theorem dX3_splits_97 : decode cX3_splits 97 = .ok (.aload_n 0, 1) := dk_42 (dk_at dksX3_splits_4 2 rfl rfl)
theorem dX3_splits_98 : decode cX3_splits 98 = .ok (.aload_n 0, 1) := dk_42 (dk_at dksX3_splits_4 3 rfl rfl)
theorem dX3_splits_99 : decode cX3_splits 99 = .ok (.iload_n 1, 1) := dk_27 (dk_at dksX3_splits_4 4 rfl rfl)
theorem dX3_splits_100 : decode cX3_splits 100 = .ok (.iconst 0, 1) := dk_3 (dk_at dksX3_splits_4 5 rfl rfl)
theorem dX3_splits_101 : decode cX3_splits 101 = .ok (.invokevirtual 78, 3) := dk_182 0 78 (dk_at dksX3_splits_4 6 rfl rfl)
theorem dX3_splits_104 : decode cX3_splits 104 = .ok (.aload_n 0, 1) := dk_42 (dk_at dksX3_splits_4 9 rfl rfl)
theorem dX3_splits_105 : decode cX3_splits 105 = .ok (.iload_n 1, 1) := dk_27 (dk_at dksX3_splits_4 10 rfl rfl)
theorem dX3_splits_106 : decode cX3_splits 106 = .ok (.iconst 3, 1) := dk_6 (dk_at dksX3_splits_4 11 rfl rfl)
theorem dX3_splits_107 : decode cX3_splits 107 = .ok (.invokevirtual 78, 3) := dk_182 0 78 (dk_at dksX3_splits_4 12 rfl rfl)
theorem dX3_splits_110 : decode cX3_splits 110 = .ok (.iload_n 2, 1) := dk_28 (dk_at dksX3_splits_4 15 rfl rfl)
theorem dX3_splits_111 : decode cX3_splits 111 = .ok (.iload_n 3, 1) := dk_29 (dk_at dksX3_splits_4 16 rfl rfl)
theorem dX3_splits_112 : decode cX3_splits 112 = .ok (.invokevirtual 106, 3) := dk_182 0 106 (dk_at dksX3_splits_4 17 rfl rfl)
theorem dX3_splits_115 : decode cX3_splits 115 = .ok (.ireturn, 1) := dk_172 (dk_at dksX3_splits_4 20 rfl rfl)
abbrev cX3_join : ByteArray := prog_16_method_38_code
def yX3_join : MethodName := ⟨RX3, "join", "(II)I"⟩
def dkwX3_join_2 : List UInt8 := [182, 0, 91, 153, 0, 5, 3, 172, 42, 42, 27, 28, 182, 0, 145, 6, 182, 0, 99, 172]
abbrev dktX3_join_2 : List UInt8 := dkwX3_join_2 ++ []
def dkwX3_join_1 : List UInt8 := [167, 0, 4, 3, 4, 182, 0, 91, 154, 0, 21, 42, 27, 28, 160, 0, 7, 4, 167, 0, 4, 3, 5]
abbrev dktX3_join_1 : List UInt8 := dkwX3_join_1 ++ dktX3_join_2
def dkwX3_join_0 : List UInt8 := [42, 182, 0, 88, 42, 42, 27, 182, 0, 124, 153, 0, 11, 42, 28, 182, 0, 124, 154, 0, 7, 4]
abbrev dktX3_join_0 : List UInt8 := dkwX3_join_0 ++ dktX3_join_1
theorem dksX3_join_0 : cX3_join.data.toList.drop 0 = dktX3_join_0 := by decide +kernel
theorem dksX3_join_1 : cX3_join.data.toList.drop 22 = dktX3_join_1 := dk_seg dksX3_join_0 22 rfl rfl
theorem dksX3_join_2 : cX3_join.data.toList.drop 45 = dktX3_join_2 := dk_seg dksX3_join_1 23 rfl rfl
theorem dX3_join_0 : decode cX3_join 0 = .ok (.aload_n 0, 1) := dk_42 (dk_at dksX3_join_0 0 rfl rfl)
theorem dX3_join_1 : decode cX3_join 1 = .ok (.invokevirtual 88, 3) := dk_182 0 88 (dk_at dksX3_join_0 1 rfl rfl)
theorem dX3_join_4 : decode cX3_join 4 = .ok (.aload_n 0, 1) := dk_42 (dk_at dksX3_join_0 4 rfl rfl)
theorem dX3_join_5 : decode cX3_join 5 = .ok (.aload_n 0, 1) := dk_42 (dk_at dksX3_join_0 5 rfl rfl)
theorem dX3_join_6 : decode cX3_join 6 = .ok (.iload_n 1, 1) := dk_27 (dk_at dksX3_join_0 6 rfl rfl)
theorem dX3_join_7 : decode cX3_join 7 = .ok (.invokevirtual 124, 3) := dk_182 0 124 (dk_at dksX3_join_0 7 rfl rfl)
theorem dX3_join_10 : decode cX3_join 10 = .ok (.ifCond .eq 11, 3) := dk_153 0 11 (dk_at dksX3_join_0 10 rfl rfl)
theorem dX3_join_13 : decode cX3_join 13 = .ok (.aload_n 0, 1) := dk_42 (dk_at dksX3_join_0 13 rfl rfl)
theorem dX3_join_14 : decode cX3_join 14 = .ok (.iload_n 2, 1) := dk_28 (dk_at dksX3_join_0 14 rfl rfl)
theorem dX3_join_15 : decode cX3_join 15 = .ok (.invokevirtual 124, 3) := dk_182 0 124 (dk_at dksX3_join_0 15 rfl rfl)
theorem dX3_join_18 : decode cX3_join 18 = .ok (.ifCond .ne 7, 3) := dk_154 0 7 (dk_at dksX3_join_0 18 rfl rfl)
theorem dX3_join_21 : decode cX3_join 21 = .ok (.iconst 1, 1) := dk_4 (dk_at dksX3_join_0 21 rfl rfl)
theorem dX3_join_22 : decode cX3_join 22 = .ok (.goto 4, 3) := dk_167 0 4 (dk_at dksX3_join_1 0 rfl rfl)
theorem dX3_join_25 : decode cX3_join 25 = .ok (.iconst 0, 1) := dk_3 (dk_at dksX3_join_1 3 rfl rfl)
theorem dX3_join_26 : decode cX3_join 26 = .ok (.iconst 1, 1) := dk_4 (dk_at dksX3_join_1 4 rfl rfl)
theorem dX3_join_27 : decode cX3_join 27 = .ok (.invokevirtual 91, 3) := dk_182 0 91 (dk_at dksX3_join_1 5 rfl rfl)
theorem dX3_join_30 : decode cX3_join 30 = .ok (.ifCond .ne 21, 3) := dk_154 0 21 (dk_at dksX3_join_1 8 rfl rfl)
theorem dX3_join_33 : decode cX3_join 33 = .ok (.aload_n 0, 1) := dk_42 (dk_at dksX3_join_1 11 rfl rfl)
theorem dX3_join_34 : decode cX3_join 34 = .ok (.iload_n 1, 1) := dk_27 (dk_at dksX3_join_1 12 rfl rfl)
theorem dX3_join_35 : decode cX3_join 35 = .ok (.iload_n 2, 1) := dk_28 (dk_at dksX3_join_1 13 rfl rfl)
theorem dX3_join_36 : decode cX3_join 36 = .ok (.if_icmp .ne 7, 3) := dk_160 0 7 (dk_at dksX3_join_1 14 rfl rfl)
theorem dX3_join_39 : decode cX3_join 39 = .ok (.iconst 1, 1) := dk_4 (dk_at dksX3_join_1 17 rfl rfl)
theorem dX3_join_40 : decode cX3_join 40 = .ok (.goto 4, 3) := dk_167 0 4 (dk_at dksX3_join_1 18 rfl rfl)
theorem dX3_join_43 : decode cX3_join 43 = .ok (.iconst 0, 1) := dk_3 (dk_at dksX3_join_1 21 rfl rfl)
theorem dX3_join_44 : decode cX3_join 44 = .ok (.iconst 2, 1) := dk_5 (dk_at dksX3_join_1 22 rfl rfl)
theorem dX3_join_45 : decode cX3_join 45 = .ok (.invokevirtual 91, 3) := dk_182 0 91 (dk_at dksX3_join_2 0 rfl rfl)
theorem dX3_join_48 : decode cX3_join 48 = .ok (.ifCond .eq 5, 3) := dk_153 0 5 (dk_at dksX3_join_2 3 rfl rfl)
theorem dX3_join_51 : decode cX3_join 51 = .ok (.iconst 0, 1) := dk_3 (dk_at dksX3_join_2 6 rfl rfl)
theorem dX3_join_52 : decode cX3_join 52 = .ok (.ireturn, 1) := dk_172 (dk_at dksX3_join_2 7 rfl rfl)
theorem dX3_join_53 : decode cX3_join 53 = .ok (.aload_n 0, 1) := dk_42 (dk_at dksX3_join_2 8 rfl rfl)
theorem dX3_join_54 : decode cX3_join 54 = .ok (.aload_n 0, 1) := dk_42 (dk_at dksX3_join_2 9 rfl rfl)
theorem dX3_join_55 : decode cX3_join 55 = .ok (.iload_n 1, 1) := dk_27 (dk_at dksX3_join_2 10 rfl rfl)
theorem dX3_join_56 : decode cX3_join 56 = .ok (.iload_n 2, 1) := dk_28 (dk_at dksX3_join_2 11 rfl rfl)
theorem dX3_join_57 : decode cX3_join 57 = .ok (.invokevirtual 145, 3) := dk_182 0 145 (dk_at dksX3_join_2 12 rfl rfl)
theorem dX3_join_60 : decode cX3_join 60 = .ok (.iconst 3, 1) := dk_6 (dk_at dksX3_join_2 15 rfl rfl)
theorem dX3_join_61 : decode cX3_join 61 = .ok (.invokevirtual 99, 3) := dk_182 0 99 (dk_at dksX3_join_2 16 rfl rfl)
theorem dX3_join_64 : decode cX3_join 64 = .ok (.ireturn, 1) := dk_172 (dk_at dksX3_join_2 19 rfl rfl)
abbrev cX3_joins : ByteArray := prog_16_method_37_code
def yX3_joins : MethodName := ⟨RX3, "joins", "(II)I"⟩
def dkwX3_joins_8 : List UInt8 := [180, 0, 9, 8, 92, 46, 4, 96, 79, 42, 27, 182, 0, 84, 172]
abbrev dktX3_joins_8 : List UInt8 := dkwX3_joins_8 ++ []
def dkwX3_joins_7 : List UInt8 := [42, 28, 5, 182, 0, 78, 184, 0, 133, 79, 42, 180, 0, 9, 28, 7, 184, 0, 63, 4, 79, 42]
abbrev dktX3_joins_7 : List UInt8 := dkwX3_joins_7 ++ dktX3_joins_8
def dkwX3_joins_6 : List UInt8 := [28, 4, 182, 0, 78, 184, 0, 130, 79, 42, 180, 0, 9, 27, 5, 184, 0, 63, 42, 27, 5, 182, 0, 78]
abbrev dktX3_joins_6 : List UInt8 := dkwX3_joins_6 ++ dktX3_joins_7
def dkwX3_joins_5 : List UInt8 := [182, 0, 95, 153, 0, 5, 3, 172, 42, 180, 0, 9, 27, 4, 184, 0, 63, 42, 27, 4, 182, 0, 78, 42]
abbrev dktX3_joins_5 : List UInt8 := dkwX3_joins_5 ++ dktX3_joins_6
def dkwX3_joins_4 : List UInt8 := [182, 0, 78, 182, 0, 95, 154, 0, 24, 42, 21, 4, 158, 0, 7, 4, 167, 0, 4, 3, 16, 8, 21, 4]
abbrev dktX3_joins_4 : List UInt8 := dkwX3_joins_4 ++ dktX3_joins_5
def dkwX3_joins_3 : List UInt8 := [182, 0, 78, 42, 28, 5, 182, 0, 78, 100, 184, 0, 133, 54, 4, 42, 29, 16, 7, 42, 28, 3]
abbrev dktX3_joins_3 : List UInt8 := dkwX3_joins_3 ++ dktX3_joins_4
def dkwX3_joins_2 : List UInt8 := [4, 167, 0, 4, 3, 62, 42, 28, 4, 182, 0, 78, 42, 27, 5, 182, 0, 78, 100, 42, 27, 4]
abbrev dktX3_joins_2 : List UInt8 := dkwX3_joins_2 ++ dktX3_joins_3
def dkwX3_joins_1 : List UInt8 := [42, 28, 3, 182, 0, 78, 160, 0, 18, 42, 27, 6, 182, 0, 78, 42, 28, 6, 182, 0, 78, 159, 0, 7]
abbrev dktX3_joins_1 : List UInt8 := dkwX3_joins_1 ++ dktX3_joins_2
def dkwX3_joins_0 : List UInt8 := [42, 27, 182, 0, 118, 154, 0, 11, 42, 28, 182, 0, 118, 153, 0, 5, 3, 172, 42, 27, 3, 182, 0, 78]
abbrev dktX3_joins_0 : List UInt8 := dkwX3_joins_0 ++ dktX3_joins_1
theorem dksX3_joins_0 : cX3_joins.data.toList.drop 0 = dktX3_joins_0 := by decide +kernel
theorem dksX3_joins_1 : cX3_joins.data.toList.drop 24 = dktX3_joins_1 := dk_seg dksX3_joins_0 24 rfl rfl
theorem dksX3_joins_2 : cX3_joins.data.toList.drop 48 = dktX3_joins_2 := dk_seg dksX3_joins_1 24 rfl rfl
theorem dksX3_joins_3 : cX3_joins.data.toList.drop 70 = dktX3_joins_3 := dk_seg dksX3_joins_2 22 rfl rfl
theorem dksX3_joins_4 : cX3_joins.data.toList.drop 92 = dktX3_joins_4 := dk_seg dksX3_joins_3 22 rfl rfl
theorem dksX3_joins_5 : cX3_joins.data.toList.drop 116 = dktX3_joins_5 := dk_seg dksX3_joins_4 24 rfl rfl
theorem dksX3_joins_6 : cX3_joins.data.toList.drop 140 = dktX3_joins_6 := dk_seg dksX3_joins_5 24 rfl rfl
theorem dksX3_joins_7 : cX3_joins.data.toList.drop 164 = dktX3_joins_7 := dk_seg dksX3_joins_6 24 rfl rfl
theorem dksX3_joins_8 : cX3_joins.data.toList.drop 186 = dktX3_joins_8 := dk_seg dksX3_joins_7 22 rfl rfl
theorem dX3_joins_0 : decode cX3_joins 0 = .ok (.aload_n 0, 1) := dk_42 (dk_at dksX3_joins_0 0 rfl rfl)
theorem dX3_joins_1 : decode cX3_joins 1 = .ok (.iload_n 1, 1) := dk_27 (dk_at dksX3_joins_0 1 rfl rfl)
theorem dX3_joins_2 : decode cX3_joins 2 = .ok (.invokevirtual 118, 3) := dk_182 0 118 (dk_at dksX3_joins_0 2 rfl rfl)
theorem dX3_joins_5 : decode cX3_joins 5 = .ok (.ifCond .ne 11, 3) := dk_154 0 11 (dk_at dksX3_joins_0 5 rfl rfl)
theorem dX3_joins_8 : decode cX3_joins 8 = .ok (.aload_n 0, 1) := dk_42 (dk_at dksX3_joins_0 8 rfl rfl)
theorem dX3_joins_9 : decode cX3_joins 9 = .ok (.iload_n 2, 1) := dk_28 (dk_at dksX3_joins_0 9 rfl rfl)
theorem dX3_joins_10 : decode cX3_joins 10 = .ok (.invokevirtual 118, 3) := dk_182 0 118 (dk_at dksX3_joins_0 10 rfl rfl)
theorem dX3_joins_13 : decode cX3_joins 13 = .ok (.ifCond .eq 5, 3) := dk_153 0 5 (dk_at dksX3_joins_0 13 rfl rfl)
theorem dX3_joins_16 : decode cX3_joins 16 = .ok (.iconst 0, 1) := dk_3 (dk_at dksX3_joins_0 16 rfl rfl)
theorem dX3_joins_17 : decode cX3_joins 17 = .ok (.ireturn, 1) := dk_172 (dk_at dksX3_joins_0 17 rfl rfl)
theorem dX3_joins_18 : decode cX3_joins 18 = .ok (.aload_n 0, 1) := dk_42 (dk_at dksX3_joins_0 18 rfl rfl)
theorem dX3_joins_19 : decode cX3_joins 19 = .ok (.iload_n 1, 1) := dk_27 (dk_at dksX3_joins_0 19 rfl rfl)
theorem dX3_joins_20 : decode cX3_joins 20 = .ok (.iconst 0, 1) := dk_3 (dk_at dksX3_joins_0 20 rfl rfl)
theorem dX3_joins_21 : decode cX3_joins 21 = .ok (.invokevirtual 78, 3) := dk_182 0 78 (dk_at dksX3_joins_0 21 rfl rfl)
theorem dX3_joins_24 : decode cX3_joins 24 = .ok (.aload_n 0, 1) := dk_42 (dk_at dksX3_joins_1 0 rfl rfl)
theorem dX3_joins_25 : decode cX3_joins 25 = .ok (.iload_n 2, 1) := dk_28 (dk_at dksX3_joins_1 1 rfl rfl)
theorem dX3_joins_26 : decode cX3_joins 26 = .ok (.iconst 0, 1) := dk_3 (dk_at dksX3_joins_1 2 rfl rfl)
theorem dX3_joins_27 : decode cX3_joins 27 = .ok (.invokevirtual 78, 3) := dk_182 0 78 (dk_at dksX3_joins_1 3 rfl rfl)
theorem dX3_joins_30 : decode cX3_joins 30 = .ok (.if_icmp .ne 18, 3) := dk_160 0 18 (dk_at dksX3_joins_1 6 rfl rfl)
theorem dX3_joins_33 : decode cX3_joins 33 = .ok (.aload_n 0, 1) := dk_42 (dk_at dksX3_joins_1 9 rfl rfl)
theorem dX3_joins_34 : decode cX3_joins 34 = .ok (.iload_n 1, 1) := dk_27 (dk_at dksX3_joins_1 10 rfl rfl)
theorem dX3_joins_35 : decode cX3_joins 35 = .ok (.iconst 3, 1) := dk_6 (dk_at dksX3_joins_1 11 rfl rfl)
theorem dX3_joins_36 : decode cX3_joins 36 = .ok (.invokevirtual 78, 3) := dk_182 0 78 (dk_at dksX3_joins_1 12 rfl rfl)
theorem dX3_joins_39 : decode cX3_joins 39 = .ok (.aload_n 0, 1) := dk_42 (dk_at dksX3_joins_1 15 rfl rfl)
theorem dX3_joins_40 : decode cX3_joins 40 = .ok (.iload_n 2, 1) := dk_28 (dk_at dksX3_joins_1 16 rfl rfl)
theorem dX3_joins_41 : decode cX3_joins 41 = .ok (.iconst 3, 1) := dk_6 (dk_at dksX3_joins_1 17 rfl rfl)
theorem dX3_joins_42 : decode cX3_joins 42 = .ok (.invokevirtual 78, 3) := dk_182 0 78 (dk_at dksX3_joins_1 18 rfl rfl)
theorem dX3_joins_45 : decode cX3_joins 45 = .ok (.if_icmp .eq 7, 3) := dk_159 0 7 (dk_at dksX3_joins_1 21 rfl rfl)
theorem dX3_joins_48 : decode cX3_joins 48 = .ok (.iconst 1, 1) := dk_4 (dk_at dksX3_joins_2 0 rfl rfl)
theorem dX3_joins_49 : decode cX3_joins 49 = .ok (.goto 4, 3) := dk_167 0 4 (dk_at dksX3_joins_2 1 rfl rfl)
theorem dX3_joins_52 : decode cX3_joins 52 = .ok (.iconst 0, 1) := dk_3 (dk_at dksX3_joins_2 4 rfl rfl)
theorem dX3_joins_53 : decode cX3_joins 53 = .ok (.istore_n 3, 1) := dk_62 (dk_at dksX3_joins_2 5 rfl rfl)
theorem dX3_joins_54 : decode cX3_joins 54 = .ok (.aload_n 0, 1) := dk_42 (dk_at dksX3_joins_2 6 rfl rfl)
theorem dX3_joins_55 : decode cX3_joins 55 = .ok (.iload_n 2, 1) := dk_28 (dk_at dksX3_joins_2 7 rfl rfl)
theorem dX3_joins_56 : decode cX3_joins 56 = .ok (.iconst 1, 1) := dk_4 (dk_at dksX3_joins_2 8 rfl rfl)
theorem dX3_joins_57 : decode cX3_joins 57 = .ok (.invokevirtual 78, 3) := dk_182 0 78 (dk_at dksX3_joins_2 9 rfl rfl)
theorem dX3_joins_60 : decode cX3_joins 60 = .ok (.aload_n 0, 1) := dk_42 (dk_at dksX3_joins_2 12 rfl rfl)
theorem dX3_joins_61 : decode cX3_joins 61 = .ok (.iload_n 1, 1) := dk_27 (dk_at dksX3_joins_2 13 rfl rfl)
theorem dX3_joins_62 : decode cX3_joins 62 = .ok (.iconst 2, 1) := dk_5 (dk_at dksX3_joins_2 14 rfl rfl)
theorem dX3_joins_63 : decode cX3_joins 63 = .ok (.invokevirtual 78, 3) := dk_182 0 78 (dk_at dksX3_joins_2 15 rfl rfl)
theorem dX3_joins_66 : decode cX3_joins 66 = .ok (.isub, 1) := dk_100 (dk_at dksX3_joins_2 18 rfl rfl)
theorem dX3_joins_67 : decode cX3_joins 67 = .ok (.aload_n 0, 1) := dk_42 (dk_at dksX3_joins_2 19 rfl rfl)
theorem dX3_joins_68 : decode cX3_joins 68 = .ok (.iload_n 1, 1) := dk_27 (dk_at dksX3_joins_2 20 rfl rfl)
theorem dX3_joins_69 : decode cX3_joins 69 = .ok (.iconst 1, 1) := dk_4 (dk_at dksX3_joins_2 21 rfl rfl)
theorem dX3_joins_70 : decode cX3_joins 70 = .ok (.invokevirtual 78, 3) := dk_182 0 78 (dk_at dksX3_joins_3 0 rfl rfl)
theorem dX3_joins_73 : decode cX3_joins 73 = .ok (.aload_n 0, 1) := dk_42 (dk_at dksX3_joins_3 3 rfl rfl)
theorem dX3_joins_74 : decode cX3_joins 74 = .ok (.iload_n 2, 1) := dk_28 (dk_at dksX3_joins_3 4 rfl rfl)
theorem dX3_joins_75 : decode cX3_joins 75 = .ok (.iconst 2, 1) := dk_5 (dk_at dksX3_joins_3 5 rfl rfl)
theorem dX3_joins_76 : decode cX3_joins 76 = .ok (.invokevirtual 78, 3) := dk_182 0 78 (dk_at dksX3_joins_3 6 rfl rfl)
theorem dX3_joins_79 : decode cX3_joins 79 = .ok (.isub, 1) := dk_100 (dk_at dksX3_joins_3 9 rfl rfl)
theorem dX3_joins_80 : decode cX3_joins 80 = .ok (.invokestatic 133, 3) := dk_184 0 133 (dk_at dksX3_joins_3 10 rfl rfl)
theorem dX3_joins_83 : decode cX3_joins 83 = .ok (.istore 4, 2) := dk_54 4 (dk_at dksX3_joins_3 13 rfl rfl)
theorem dX3_joins_85 : decode cX3_joins 85 = .ok (.aload_n 0, 1) := dk_42 (dk_at dksX3_joins_3 15 rfl rfl)
theorem dX3_joins_86 : decode cX3_joins 86 = .ok (.iload_n 3, 1) := dk_29 (dk_at dksX3_joins_3 16 rfl rfl)
theorem dX3_joins_87 : decode cX3_joins 87 = .ok (.bipush 7, 2) := dk_16 7 (dk_at dksX3_joins_3 17 rfl rfl)
theorem dX3_joins_89 : decode cX3_joins 89 = .ok (.aload_n 0, 1) := dk_42 (dk_at dksX3_joins_3 19 rfl rfl)
theorem dX3_joins_90 : decode cX3_joins 90 = .ok (.iload_n 2, 1) := dk_28 (dk_at dksX3_joins_3 20 rfl rfl)
theorem dX3_joins_91 : decode cX3_joins 91 = .ok (.iconst 0, 1) := dk_3 (dk_at dksX3_joins_3 21 rfl rfl)
theorem dX3_joins_92 : decode cX3_joins 92 = .ok (.invokevirtual 78, 3) := dk_182 0 78 (dk_at dksX3_joins_4 0 rfl rfl)
theorem dX3_joins_95 : decode cX3_joins 95 = .ok (.invokevirtual 95, 3) := dk_182 0 95 (dk_at dksX3_joins_4 3 rfl rfl)
theorem dX3_joins_98 : decode cX3_joins 98 = .ok (.ifCond .ne 24, 3) := dk_154 0 24 (dk_at dksX3_joins_4 6 rfl rfl)
theorem dX3_joins_101 : decode cX3_joins 101 = .ok (.aload_n 0, 1) := dk_42 (dk_at dksX3_joins_4 9 rfl rfl)
theorem dX3_joins_102 : decode cX3_joins 102 = .ok (.iload 4, 2) := dk_21 4 (dk_at dksX3_joins_4 10 rfl rfl)
theorem dX3_joins_104 : decode cX3_joins 104 = .ok (.ifCond .le 7, 3) := dk_158 0 7 (dk_at dksX3_joins_4 12 rfl rfl)
theorem dX3_joins_107 : decode cX3_joins 107 = .ok (.iconst 1, 1) := dk_4 (dk_at dksX3_joins_4 15 rfl rfl)
theorem dX3_joins_108 : decode cX3_joins 108 = .ok (.goto 4, 3) := dk_167 0 4 (dk_at dksX3_joins_4 16 rfl rfl)
theorem dX3_joins_111 : decode cX3_joins 111 = .ok (.iconst 0, 1) := dk_3 (dk_at dksX3_joins_4 19 rfl rfl)
theorem dX3_joins_112 : decode cX3_joins 112 = .ok (.bipush 8, 2) := dk_16 8 (dk_at dksX3_joins_4 20 rfl rfl)
theorem dX3_joins_114 : decode cX3_joins 114 = .ok (.iload 4, 2) := dk_21 4 (dk_at dksX3_joins_4 22 rfl rfl)
theorem dX3_joins_116 : decode cX3_joins 116 = .ok (.invokevirtual 95, 3) := dk_182 0 95 (dk_at dksX3_joins_5 0 rfl rfl)
theorem dX3_joins_119 : decode cX3_joins 119 = .ok (.ifCond .eq 5, 3) := dk_153 0 5 (dk_at dksX3_joins_5 3 rfl rfl)
theorem dX3_joins_122 : decode cX3_joins 122 = .ok (.iconst 0, 1) := dk_3 (dk_at dksX3_joins_5 6 rfl rfl)
theorem dX3_joins_123 : decode cX3_joins 123 = .ok (.ireturn, 1) := dk_172 (dk_at dksX3_joins_5 7 rfl rfl)
theorem dX3_joins_124 : decode cX3_joins 124 = .ok (.aload_n 0, 1) := dk_42 (dk_at dksX3_joins_5 8 rfl rfl)
theorem dX3_joins_125 : decode cX3_joins 125 = .ok (.getfield 9, 3) := dk_180 0 9 (dk_at dksX3_joins_5 9 rfl rfl)
theorem dX3_joins_128 : decode cX3_joins 128 = .ok (.iload_n 1, 1) := dk_27 (dk_at dksX3_joins_5 12 rfl rfl)
theorem dX3_joins_129 : decode cX3_joins 129 = .ok (.iconst 1, 1) := dk_4 (dk_at dksX3_joins_5 13 rfl rfl)
theorem dX3_joins_130 : decode cX3_joins 130 = .ok (.invokestatic 63, 3) := dk_184 0 63 (dk_at dksX3_joins_5 14 rfl rfl)
theorem dX3_joins_133 : decode cX3_joins 133 = .ok (.aload_n 0, 1) := dk_42 (dk_at dksX3_joins_5 17 rfl rfl)
theorem dX3_joins_134 : decode cX3_joins 134 = .ok (.iload_n 1, 1) := dk_27 (dk_at dksX3_joins_5 18 rfl rfl)
theorem dX3_joins_135 : decode cX3_joins 135 = .ok (.iconst 1, 1) := dk_4 (dk_at dksX3_joins_5 19 rfl rfl)
theorem dX3_joins_136 : decode cX3_joins 136 = .ok (.invokevirtual 78, 3) := dk_182 0 78 (dk_at dksX3_joins_5 20 rfl rfl)
theorem dX3_joins_139 : decode cX3_joins 139 = .ok (.aload_n 0, 1) := dk_42 (dk_at dksX3_joins_5 23 rfl rfl)
theorem dX3_joins_140 : decode cX3_joins 140 = .ok (.iload_n 2, 1) := dk_28 (dk_at dksX3_joins_6 0 rfl rfl)
theorem dX3_joins_141 : decode cX3_joins 141 = .ok (.iconst 1, 1) := dk_4 (dk_at dksX3_joins_6 1 rfl rfl)
theorem dX3_joins_142 : decode cX3_joins 142 = .ok (.invokevirtual 78, 3) := dk_182 0 78 (dk_at dksX3_joins_6 2 rfl rfl)
theorem dX3_joins_145 : decode cX3_joins 145 = .ok (.invokestatic 130, 3) := dk_184 0 130 (dk_at dksX3_joins_6 5 rfl rfl)
theorem dX3_joins_148 : decode cX3_joins 148 = .ok (.iastore, 1) := dk_79 (dk_at dksX3_joins_6 8 rfl rfl)
theorem dX3_joins_149 : decode cX3_joins 149 = .ok (.aload_n 0, 1) := dk_42 (dk_at dksX3_joins_6 9 rfl rfl)
theorem dX3_joins_150 : decode cX3_joins 150 = .ok (.getfield 9, 3) := dk_180 0 9 (dk_at dksX3_joins_6 10 rfl rfl)
theorem dX3_joins_153 : decode cX3_joins 153 = .ok (.iload_n 1, 1) := dk_27 (dk_at dksX3_joins_6 13 rfl rfl)
theorem dX3_joins_154 : decode cX3_joins 154 = .ok (.iconst 2, 1) := dk_5 (dk_at dksX3_joins_6 14 rfl rfl)
theorem dX3_joins_155 : decode cX3_joins 155 = .ok (.invokestatic 63, 3) := dk_184 0 63 (dk_at dksX3_joins_6 15 rfl rfl)
theorem dX3_joins_158 : decode cX3_joins 158 = .ok (.aload_n 0, 1) := dk_42 (dk_at dksX3_joins_6 18 rfl rfl)
theorem dX3_joins_159 : decode cX3_joins 159 = .ok (.iload_n 1, 1) := dk_27 (dk_at dksX3_joins_6 19 rfl rfl)
theorem dX3_joins_160 : decode cX3_joins 160 = .ok (.iconst 2, 1) := dk_5 (dk_at dksX3_joins_6 20 rfl rfl)
theorem dX3_joins_161 : decode cX3_joins 161 = .ok (.invokevirtual 78, 3) := dk_182 0 78 (dk_at dksX3_joins_6 21 rfl rfl)
theorem dX3_joins_164 : decode cX3_joins 164 = .ok (.aload_n 0, 1) := dk_42 (dk_at dksX3_joins_7 0 rfl rfl)
theorem dX3_joins_165 : decode cX3_joins 165 = .ok (.iload_n 2, 1) := dk_28 (dk_at dksX3_joins_7 1 rfl rfl)
theorem dX3_joins_166 : decode cX3_joins 166 = .ok (.iconst 2, 1) := dk_5 (dk_at dksX3_joins_7 2 rfl rfl)
theorem dX3_joins_167 : decode cX3_joins 167 = .ok (.invokevirtual 78, 3) := dk_182 0 78 (dk_at dksX3_joins_7 3 rfl rfl)
theorem dX3_joins_170 : decode cX3_joins 170 = .ok (.invokestatic 133, 3) := dk_184 0 133 (dk_at dksX3_joins_7 6 rfl rfl)
theorem dX3_joins_173 : decode cX3_joins 173 = .ok (.iastore, 1) := dk_79 (dk_at dksX3_joins_7 9 rfl rfl)
theorem dX3_joins_174 : decode cX3_joins 174 = .ok (.aload_n 0, 1) := dk_42 (dk_at dksX3_joins_7 10 rfl rfl)
theorem dX3_joins_175 : decode cX3_joins 175 = .ok (.getfield 9, 3) := dk_180 0 9 (dk_at dksX3_joins_7 11 rfl rfl)
theorem dX3_joins_178 : decode cX3_joins 178 = .ok (.iload_n 2, 1) := dk_28 (dk_at dksX3_joins_7 14 rfl rfl)
theorem dX3_joins_179 : decode cX3_joins 179 = .ok (.iconst 4, 1) := dk_7 (dk_at dksX3_joins_7 15 rfl rfl)
theorem dX3_joins_180 : decode cX3_joins 180 = .ok (.invokestatic 63, 3) := dk_184 0 63 (dk_at dksX3_joins_7 16 rfl rfl)
theorem dX3_joins_183 : decode cX3_joins 183 = .ok (.iconst 1, 1) := dk_4 (dk_at dksX3_joins_7 19 rfl rfl)
theorem dX3_joins_184 : decode cX3_joins 184 = .ok (.iastore, 1) := dk_79 (dk_at dksX3_joins_7 20 rfl rfl)
theorem dX3_joins_185 : decode cX3_joins 185 = .ok (.aload_n 0, 1) := dk_42 (dk_at dksX3_joins_7 21 rfl rfl)
theorem dX3_joins_186 : decode cX3_joins 186 = .ok (.getfield 9, 3) := dk_180 0 9 (dk_at dksX3_joins_8 0 rfl rfl)
theorem dX3_joins_189 : decode cX3_joins 189 = .ok (.iconst 5, 1) := dk_8 (dk_at dksX3_joins_8 3 rfl rfl)
theorem dX3_joins_190 : decode cX3_joins 190 = .ok (.dup2, 1) := dk_92 (dk_at dksX3_joins_8 4 rfl rfl)
theorem dX3_joins_191 : decode cX3_joins 191 = .ok (.iaload, 1) := dk_46 (dk_at dksX3_joins_8 5 rfl rfl)
theorem dX3_joins_192 : decode cX3_joins 192 = .ok (.iconst 1, 1) := dk_4 (dk_at dksX3_joins_8 6 rfl rfl)
theorem dX3_joins_193 : decode cX3_joins 193 = .ok (.iadd, 1) := dk_96 (dk_at dksX3_joins_8 7 rfl rfl)
theorem dX3_joins_194 : decode cX3_joins 194 = .ok (.iastore, 1) := dk_79 (dk_at dksX3_joins_8 8 rfl rfl)
theorem dX3_joins_195 : decode cX3_joins 195 = .ok (.aload_n 0, 1) := dk_42 (dk_at dksX3_joins_8 9 rfl rfl)
theorem dX3_joins_196 : decode cX3_joins 196 = .ok (.iload_n 1, 1) := dk_27 (dk_at dksX3_joins_8 10 rfl rfl)
theorem dX3_joins_197 : decode cX3_joins 197 = .ok (.invokevirtual 84, 3) := dk_182 0 84 (dk_at dksX3_joins_8 11 rfl rfl)
theorem dX3_joins_200 : decode cX3_joins 200 = .ok (.ireturn, 1) := dk_172 (dk_at dksX3_joins_8 14 rfl rfl)
abbrev cX3_lettingOf : ByteArray := prog_16_method_39_code
def yX3_lettingOf : MethodName := ⟨RX3, "lettingOf", "(II)I"⟩
def dkwX3_lettingOf_2 : List UInt8 := [160, 0, 11, 42, 27, 182, 0, 121, 167, 0, 9, 42, 27, 28, 182, 0, 78, 172]
abbrev dktX3_lettingOf_2 : List UInt8 := dkwX3_lettingOf_2 ++ []
def dkwX3_lettingOf_1 : List UInt8 := [8, 184, 0, 70, 154, 0, 7, 4, 167, 0, 4, 3, 5, 182, 0, 91, 153, 0, 5, 3, 172, 28, 8]
abbrev dktX3_lettingOf_1 : List UInt8 := dkwX3_lettingOf_1 ++ dktX3_lettingOf_2
def dkwX3_lettingOf_0 : List UInt8 := [42, 42, 27, 182, 0, 124, 154, 0, 7, 4, 167, 0, 4, 3, 4, 182, 0, 91, 154, 0, 25, 42, 28, 3]
abbrev dktX3_lettingOf_0 : List UInt8 := dkwX3_lettingOf_0 ++ dktX3_lettingOf_1
theorem dksX3_lettingOf_0 : cX3_lettingOf.data.toList.drop 0 = dktX3_lettingOf_0 := by decide +kernel
theorem dksX3_lettingOf_1 : cX3_lettingOf.data.toList.drop 24 = dktX3_lettingOf_1 := dk_seg dksX3_lettingOf_0 24 rfl rfl
theorem dksX3_lettingOf_2 : cX3_lettingOf.data.toList.drop 47 = dktX3_lettingOf_2 := dk_seg dksX3_lettingOf_1 23 rfl rfl
theorem dX3_lettingOf_0 : decode cX3_lettingOf 0 = .ok (.aload_n 0, 1) := dk_42 (dk_at dksX3_lettingOf_0 0 rfl rfl)
theorem dX3_lettingOf_1 : decode cX3_lettingOf 1 = .ok (.aload_n 0, 1) := dk_42 (dk_at dksX3_lettingOf_0 1 rfl rfl)
theorem dX3_lettingOf_2 : decode cX3_lettingOf 2 = .ok (.iload_n 1, 1) := dk_27 (dk_at dksX3_lettingOf_0 2 rfl rfl)
theorem dX3_lettingOf_3 : decode cX3_lettingOf 3 = .ok (.invokevirtual 124, 3) := dk_182 0 124 (dk_at dksX3_lettingOf_0 3 rfl rfl)
theorem dX3_lettingOf_6 : decode cX3_lettingOf 6 = .ok (.ifCond .ne 7, 3) := dk_154 0 7 (dk_at dksX3_lettingOf_0 6 rfl rfl)
theorem dX3_lettingOf_9 : decode cX3_lettingOf 9 = .ok (.iconst 1, 1) := dk_4 (dk_at dksX3_lettingOf_0 9 rfl rfl)
theorem dX3_lettingOf_10 : decode cX3_lettingOf 10 = .ok (.goto 4, 3) := dk_167 0 4 (dk_at dksX3_lettingOf_0 10 rfl rfl)
theorem dX3_lettingOf_13 : decode cX3_lettingOf 13 = .ok (.iconst 0, 1) := dk_3 (dk_at dksX3_lettingOf_0 13 rfl rfl)
theorem dX3_lettingOf_14 : decode cX3_lettingOf 14 = .ok (.iconst 1, 1) := dk_4 (dk_at dksX3_lettingOf_0 14 rfl rfl)
theorem dX3_lettingOf_15 : decode cX3_lettingOf 15 = .ok (.invokevirtual 91, 3) := dk_182 0 91 (dk_at dksX3_lettingOf_0 15 rfl rfl)
theorem dX3_lettingOf_18 : decode cX3_lettingOf 18 = .ok (.ifCond .ne 25, 3) := dk_154 0 25 (dk_at dksX3_lettingOf_0 18 rfl rfl)
theorem dX3_lettingOf_21 : decode cX3_lettingOf 21 = .ok (.aload_n 0, 1) := dk_42 (dk_at dksX3_lettingOf_0 21 rfl rfl)
theorem dX3_lettingOf_22 : decode cX3_lettingOf 22 = .ok (.iload_n 2, 1) := dk_28 (dk_at dksX3_lettingOf_0 22 rfl rfl)
theorem dX3_lettingOf_23 : decode cX3_lettingOf 23 = .ok (.iconst 0, 1) := dk_3 (dk_at dksX3_lettingOf_0 23 rfl rfl)
theorem dX3_lettingOf_24 : decode cX3_lettingOf 24 = .ok (.iconst 5, 1) := dk_8 (dk_at dksX3_lettingOf_1 0 rfl rfl)
theorem dX3_lettingOf_25 : decode cX3_lettingOf 25 = .ok (.invokestatic 70, 3) := dk_184 0 70 (dk_at dksX3_lettingOf_1 1 rfl rfl)
theorem dX3_lettingOf_28 : decode cX3_lettingOf 28 = .ok (.ifCond .ne 7, 3) := dk_154 0 7 (dk_at dksX3_lettingOf_1 4 rfl rfl)
theorem dX3_lettingOf_31 : decode cX3_lettingOf 31 = .ok (.iconst 1, 1) := dk_4 (dk_at dksX3_lettingOf_1 7 rfl rfl)
theorem dX3_lettingOf_32 : decode cX3_lettingOf 32 = .ok (.goto 4, 3) := dk_167 0 4 (dk_at dksX3_lettingOf_1 8 rfl rfl)
theorem dX3_lettingOf_35 : decode cX3_lettingOf 35 = .ok (.iconst 0, 1) := dk_3 (dk_at dksX3_lettingOf_1 11 rfl rfl)
theorem dX3_lettingOf_36 : decode cX3_lettingOf 36 = .ok (.iconst 2, 1) := dk_5 (dk_at dksX3_lettingOf_1 12 rfl rfl)
theorem dX3_lettingOf_37 : decode cX3_lettingOf 37 = .ok (.invokevirtual 91, 3) := dk_182 0 91 (dk_at dksX3_lettingOf_1 13 rfl rfl)
theorem dX3_lettingOf_40 : decode cX3_lettingOf 40 = .ok (.ifCond .eq 5, 3) := dk_153 0 5 (dk_at dksX3_lettingOf_1 16 rfl rfl)
theorem dX3_lettingOf_43 : decode cX3_lettingOf 43 = .ok (.iconst 0, 1) := dk_3 (dk_at dksX3_lettingOf_1 19 rfl rfl)
theorem dX3_lettingOf_44 : decode cX3_lettingOf 44 = .ok (.ireturn, 1) := dk_172 (dk_at dksX3_lettingOf_1 20 rfl rfl)
theorem dX3_lettingOf_45 : decode cX3_lettingOf 45 = .ok (.iload_n 2, 1) := dk_28 (dk_at dksX3_lettingOf_1 21 rfl rfl)
theorem dX3_lettingOf_46 : decode cX3_lettingOf 46 = .ok (.iconst 5, 1) := dk_8 (dk_at dksX3_lettingOf_1 22 rfl rfl)
theorem dX3_lettingOf_47 : decode cX3_lettingOf 47 = .ok (.if_icmp .ne 11, 3) := dk_160 0 11 (dk_at dksX3_lettingOf_2 0 rfl rfl)
theorem dX3_lettingOf_50 : decode cX3_lettingOf 50 = .ok (.aload_n 0, 1) := dk_42 (dk_at dksX3_lettingOf_2 3 rfl rfl)
theorem dX3_lettingOf_51 : decode cX3_lettingOf 51 = .ok (.iload_n 1, 1) := dk_27 (dk_at dksX3_lettingOf_2 4 rfl rfl)
theorem dX3_lettingOf_52 : decode cX3_lettingOf 52 = .ok (.invokevirtual 121, 3) := dk_182 0 121 (dk_at dksX3_lettingOf_2 5 rfl rfl)
theorem dX3_lettingOf_55 : decode cX3_lettingOf 55 = .ok (.goto 9, 3) := dk_167 0 9 (dk_at dksX3_lettingOf_2 8 rfl rfl)
theorem dX3_lettingOf_58 : decode cX3_lettingOf 58 = .ok (.aload_n 0, 1) := dk_42 (dk_at dksX3_lettingOf_2 11 rfl rfl)
theorem dX3_lettingOf_59 : decode cX3_lettingOf 59 = .ok (.iload_n 1, 1) := dk_27 (dk_at dksX3_lettingOf_2 12 rfl rfl)
theorem dX3_lettingOf_60 : decode cX3_lettingOf 60 = .ok (.iload_n 2, 1) := dk_28 (dk_at dksX3_lettingOf_2 13 rfl rfl)
theorem dX3_lettingOf_61 : decode cX3_lettingOf 61 = .ok (.invokevirtual 78, 3) := dk_182 0 78 (dk_at dksX3_lettingOf_2 14 rfl rfl)
theorem dX3_lettingOf_64 : decode cX3_lettingOf 64 = .ok (.ireturn, 1) := dk_172 (dk_at dksX3_lettingOf_2 17 rfl rfl)
abbrev cX3_at : ByteArray := prog_16_method_41_code
def yX3_at : MethodName := ⟨RX3, "at", "(II)I"⟩
def dkwX3_at_2 : List UInt8 := [182, 0, 148, 172]
abbrev dktX3_at_2 : List UInt8 := dkwX3_at_2 ++ []
def dkwX3_at_1 : List UInt8 := [184, 0, 74, 154, 0, 7, 4, 167, 0, 4, 3, 5, 182, 0, 91, 153, 0, 5, 3, 172, 42, 27, 28]
abbrev dktX3_at_1 : List UInt8 := dkwX3_at_1 ++ dktX3_at_2
def dkwX3_at_0 : List UInt8 := [42, 42, 27, 182, 0, 109, 154, 0, 7, 4, 167, 0, 4, 3, 4, 182, 0, 91, 154, 0, 23, 42, 28]
abbrev dktX3_at_0 : List UInt8 := dkwX3_at_0 ++ dktX3_at_1
theorem dksX3_at_0 : cX3_at.data.toList.drop 0 = dktX3_at_0 := by decide +kernel
theorem dksX3_at_1 : cX3_at.data.toList.drop 23 = dktX3_at_1 := dk_seg dksX3_at_0 23 rfl rfl
theorem dksX3_at_2 : cX3_at.data.toList.drop 46 = dktX3_at_2 := dk_seg dksX3_at_1 23 rfl rfl
theorem dX3_at_0 : decode cX3_at 0 = .ok (.aload_n 0, 1) := dk_42 (dk_at dksX3_at_0 0 rfl rfl)
theorem dX3_at_1 : decode cX3_at 1 = .ok (.aload_n 0, 1) := dk_42 (dk_at dksX3_at_0 1 rfl rfl)
theorem dX3_at_2 : decode cX3_at 2 = .ok (.iload_n 1, 1) := dk_27 (dk_at dksX3_at_0 2 rfl rfl)
theorem dX3_at_3 : decode cX3_at 3 = .ok (.invokevirtual 109, 3) := dk_182 0 109 (dk_at dksX3_at_0 3 rfl rfl)
theorem dX3_at_6 : decode cX3_at 6 = .ok (.ifCond .ne 7, 3) := dk_154 0 7 (dk_at dksX3_at_0 6 rfl rfl)
theorem dX3_at_9 : decode cX3_at 9 = .ok (.iconst 1, 1) := dk_4 (dk_at dksX3_at_0 9 rfl rfl)
theorem dX3_at_10 : decode cX3_at 10 = .ok (.goto 4, 3) := dk_167 0 4 (dk_at dksX3_at_0 10 rfl rfl)
theorem dX3_at_13 : decode cX3_at 13 = .ok (.iconst 0, 1) := dk_3 (dk_at dksX3_at_0 13 rfl rfl)
theorem dX3_at_14 : decode cX3_at 14 = .ok (.iconst 1, 1) := dk_4 (dk_at dksX3_at_0 14 rfl rfl)
theorem dX3_at_15 : decode cX3_at 15 = .ok (.invokevirtual 91, 3) := dk_182 0 91 (dk_at dksX3_at_0 15 rfl rfl)
theorem dX3_at_18 : decode cX3_at 18 = .ok (.ifCond .ne 23, 3) := dk_154 0 23 (dk_at dksX3_at_0 18 rfl rfl)
theorem dX3_at_21 : decode cX3_at 21 = .ok (.aload_n 0, 1) := dk_42 (dk_at dksX3_at_0 21 rfl rfl)
theorem dX3_at_22 : decode cX3_at 22 = .ok (.iload_n 2, 1) := dk_28 (dk_at dksX3_at_0 22 rfl rfl)
theorem dX3_at_23 : decode cX3_at 23 = .ok (.invokestatic 74, 3) := dk_184 0 74 (dk_at dksX3_at_1 0 rfl rfl)
theorem dX3_at_26 : decode cX3_at 26 = .ok (.ifCond .ne 7, 3) := dk_154 0 7 (dk_at dksX3_at_1 3 rfl rfl)
theorem dX3_at_29 : decode cX3_at 29 = .ok (.iconst 1, 1) := dk_4 (dk_at dksX3_at_1 6 rfl rfl)
theorem dX3_at_30 : decode cX3_at 30 = .ok (.goto 4, 3) := dk_167 0 4 (dk_at dksX3_at_1 7 rfl rfl)
theorem dX3_at_33 : decode cX3_at 33 = .ok (.iconst 0, 1) := dk_3 (dk_at dksX3_at_1 10 rfl rfl)
theorem dX3_at_34 : decode cX3_at 34 = .ok (.iconst 2, 1) := dk_5 (dk_at dksX3_at_1 11 rfl rfl)
theorem dX3_at_35 : decode cX3_at 35 = .ok (.invokevirtual 91, 3) := dk_182 0 91 (dk_at dksX3_at_1 12 rfl rfl)
theorem dX3_at_38 : decode cX3_at 38 = .ok (.ifCond .eq 5, 3) := dk_153 0 5 (dk_at dksX3_at_1 15 rfl rfl)
theorem dX3_at_41 : decode cX3_at 41 = .ok (.iconst 0, 1) := dk_3 (dk_at dksX3_at_1 18 rfl rfl)
theorem dX3_at_42 : decode cX3_at 42 = .ok (.ireturn, 1) := dk_172 (dk_at dksX3_at_1 19 rfl rfl)
theorem dX3_at_43 : decode cX3_at 43 = .ok (.aload_n 0, 1) := dk_42 (dk_at dksX3_at_1 20 rfl rfl)
theorem dX3_at_44 : decode cX3_at 44 = .ok (.iload_n 1, 1) := dk_27 (dk_at dksX3_at_1 21 rfl rfl)
theorem dX3_at_45 : decode cX3_at 45 = .ok (.iload_n 2, 1) := dk_28 (dk_at dksX3_at_1 22 rfl rfl)
theorem dX3_at_46 : decode cX3_at 46 = .ok (.invokevirtual 148, 3) := dk_182 0 148 (dk_at dksX3_at_2 0 rfl rfl)
theorem dX3_at_49 : decode cX3_at 49 = .ok (.ireturn, 1) := dk_172 (dk_at dksX3_at_2 3 rfl rfl)
abbrev cX3_letAt : ByteArray := prog_16_method_40_code
def yX3_letAt : MethodName := ⟨RX3, "letAt", "(II)I"⟩
def dkwX3_letAt_0 : List UInt8 := [42, 27, 28, 28, 4, 96, 2, 182, 0, 102, 172]
abbrev dktX3_letAt_0 : List UInt8 := dkwX3_letAt_0 ++ []
theorem dksX3_letAt_0 : cX3_letAt.data.toList.drop 0 = dktX3_letAt_0 := by decide +kernel
theorem dX3_letAt_0 : decode cX3_letAt 0 = .ok (.aload_n 0, 1) := dk_42 (dk_at dksX3_letAt_0 0 rfl rfl)
theorem dX3_letAt_1 : decode cX3_letAt 1 = .ok (.iload_n 1, 1) := dk_27 (dk_at dksX3_letAt_0 1 rfl rfl)
theorem dX3_letAt_2 : decode cX3_letAt 2 = .ok (.iload_n 2, 1) := dk_28 (dk_at dksX3_letAt_0 2 rfl rfl)
theorem dX3_letAt_3 : decode cX3_letAt 3 = .ok (.iload_n 2, 1) := dk_28 (dk_at dksX3_letAt_0 3 rfl rfl)
theorem dX3_letAt_4 : decode cX3_letAt 4 = .ok (.iconst 1, 1) := dk_4 (dk_at dksX3_letAt_0 4 rfl rfl)
theorem dX3_letAt_5 : decode cX3_letAt 5 = .ok (.iadd, 1) := dk_96 (dk_at dksX3_letAt_0 5 rfl rfl)
theorem dX3_letAt_6 : decode cX3_letAt 6 = .ok (.iconst (-1), 1) := dk_2 (dk_at dksX3_letAt_0 6 rfl rfl)
theorem dX3_letAt_7 : decode cX3_letAt 7 = .ok (.invokevirtual 102, 3) := dk_182 0 102 (dk_at dksX3_letAt_0 7 rfl rfl)
theorem dX3_letAt_10 : decode cX3_letAt 10 = .ok (.ireturn, 1) := dk_172 (dk_at dksX3_letAt_0 10 rfl rfl)
abbrev cX3_wish : ByteArray := prog_16_method_43_code
def yX3_wish : MethodName := ⟨RX3, "wish", "(III)I"⟩
def dkwX3_wish_1 : List UInt8 := [153, 0, 5, 3, 172, 42, 42, 27, 28, 29, 182, 0, 151, 5, 182, 0, 99, 172]
abbrev dktX3_wish_1 : List UInt8 := dkwX3_wish_1 ++ []
def dkwX3_wish_0 : List UInt8 := [42, 182, 0, 88, 42, 27, 28, 29, 184, 0, 112, 154, 0, 7, 4, 167, 0, 4, 3, 4, 182, 0, 91]
abbrev dktX3_wish_0 : List UInt8 := dkwX3_wish_0 ++ dktX3_wish_1
theorem dksX3_wish_0 : cX3_wish.data.toList.drop 0 = dktX3_wish_0 := by decide +kernel
theorem dksX3_wish_1 : cX3_wish.data.toList.drop 23 = dktX3_wish_1 := dk_seg dksX3_wish_0 23 rfl rfl
theorem dX3_wish_0 : decode cX3_wish 0 = .ok (.aload_n 0, 1) := dk_42 (dk_at dksX3_wish_0 0 rfl rfl)
theorem dX3_wish_1 : decode cX3_wish 1 = .ok (.invokevirtual 88, 3) := dk_182 0 88 (dk_at dksX3_wish_0 1 rfl rfl)
theorem dX3_wish_4 : decode cX3_wish 4 = .ok (.aload_n 0, 1) := dk_42 (dk_at dksX3_wish_0 4 rfl rfl)
theorem dX3_wish_5 : decode cX3_wish 5 = .ok (.iload_n 1, 1) := dk_27 (dk_at dksX3_wish_0 5 rfl rfl)
theorem dX3_wish_6 : decode cX3_wish 6 = .ok (.iload_n 2, 1) := dk_28 (dk_at dksX3_wish_0 6 rfl rfl)
theorem dX3_wish_7 : decode cX3_wish 7 = .ok (.iload_n 3, 1) := dk_29 (dk_at dksX3_wish_0 7 rfl rfl)
theorem dX3_wish_8 : decode cX3_wish 8 = .ok (.invokestatic 112, 3) := dk_184 0 112 (dk_at dksX3_wish_0 8 rfl rfl)
theorem dX3_wish_11 : decode cX3_wish 11 = .ok (.ifCond .ne 7, 3) := dk_154 0 7 (dk_at dksX3_wish_0 11 rfl rfl)
theorem dX3_wish_14 : decode cX3_wish 14 = .ok (.iconst 1, 1) := dk_4 (dk_at dksX3_wish_0 14 rfl rfl)
theorem dX3_wish_15 : decode cX3_wish 15 = .ok (.goto 4, 3) := dk_167 0 4 (dk_at dksX3_wish_0 15 rfl rfl)
theorem dX3_wish_18 : decode cX3_wish 18 = .ok (.iconst 0, 1) := dk_3 (dk_at dksX3_wish_0 18 rfl rfl)
theorem dX3_wish_19 : decode cX3_wish 19 = .ok (.iconst 1, 1) := dk_4 (dk_at dksX3_wish_0 19 rfl rfl)
theorem dX3_wish_20 : decode cX3_wish 20 = .ok (.invokevirtual 91, 3) := dk_182 0 91 (dk_at dksX3_wish_0 20 rfl rfl)
theorem dX3_wish_23 : decode cX3_wish 23 = .ok (.ifCond .eq 5, 3) := dk_153 0 5 (dk_at dksX3_wish_1 0 rfl rfl)
theorem dX3_wish_26 : decode cX3_wish 26 = .ok (.iconst 0, 1) := dk_3 (dk_at dksX3_wish_1 3 rfl rfl)
theorem dX3_wish_27 : decode cX3_wish 27 = .ok (.ireturn, 1) := dk_172 (dk_at dksX3_wish_1 4 rfl rfl)
theorem dX3_wish_28 : decode cX3_wish 28 = .ok (.aload_n 0, 1) := dk_42 (dk_at dksX3_wish_1 5 rfl rfl)
theorem dX3_wish_29 : decode cX3_wish 29 = .ok (.aload_n 0, 1) := dk_42 (dk_at dksX3_wish_1 6 rfl rfl)
theorem dX3_wish_30 : decode cX3_wish 30 = .ok (.iload_n 1, 1) := dk_27 (dk_at dksX3_wish_1 7 rfl rfl)
theorem dX3_wish_31 : decode cX3_wish 31 = .ok (.iload_n 2, 1) := dk_28 (dk_at dksX3_wish_1 8 rfl rfl)
theorem dX3_wish_32 : decode cX3_wish 32 = .ok (.iload_n 3, 1) := dk_29 (dk_at dksX3_wish_1 9 rfl rfl)
theorem dX3_wish_33 : decode cX3_wish 33 = .ok (.invokevirtual 151, 3) := dk_182 0 151 (dk_at dksX3_wish_1 10 rfl rfl)
theorem dX3_wish_36 : decode cX3_wish 36 = .ok (.iconst 2, 1) := dk_5 (dk_at dksX3_wish_1 13 rfl rfl)
theorem dX3_wish_37 : decode cX3_wish 37 = .ok (.invokevirtual 99, 3) := dk_182 0 99 (dk_at dksX3_wish_1 14 rfl rfl)
theorem dX3_wish_40 : decode cX3_wish 40 = .ok (.ireturn, 1) := dk_172 (dk_at dksX3_wish_1 17 rfl rfl)
abbrev cX3_wishes : ByteArray := prog_16_method_42_code
def yX3_wishes : MethodName := ⟨RX3, "wishes", "(III)I"⟩
def dkwX3_wishes_3 : List UInt8 := [79, 42, 180, 0, 9, 5, 92, 46, 4, 96, 79, 21, 4, 172]
abbrev dktX3_wishes_3 : List UInt8 := dkwX3_wishes_3 ++ []
def dkwX3_wishes_2 : List UInt8 := [79, 42, 180, 0, 9, 21, 4, 4, 184, 0, 67, 29, 79, 42, 180, 0, 9, 21, 4, 5, 184, 0, 67, 27]
abbrev dktX3_wishes_2 : List UInt8 := dkwX3_wishes_2 ++ dktX3_wishes_3
def dkwX3_wishes_1 : List UInt8 := [153, 0, 5, 3, 172, 42, 180, 0, 9, 5, 46, 54, 4, 42, 180, 0, 9, 21, 4, 3, 184, 0, 67, 28]
abbrev dktX3_wishes_1 : List UInt8 := dkwX3_wishes_1 ++ dktX3_wishes_2
def dkwX3_wishes_0 : List UInt8 := [42, 42, 180, 0, 9, 5, 46, 16, 12, 160, 0, 7, 4, 167, 0, 4, 3, 4, 16, 12, 182, 0, 95]
abbrev dktX3_wishes_0 : List UInt8 := dkwX3_wishes_0 ++ dktX3_wishes_1
theorem dksX3_wishes_0 : cX3_wishes.data.toList.drop 0 = dktX3_wishes_0 := by decide +kernel
theorem dksX3_wishes_1 : cX3_wishes.data.toList.drop 23 = dktX3_wishes_1 := dk_seg dksX3_wishes_0 23 rfl rfl
theorem dksX3_wishes_2 : cX3_wishes.data.toList.drop 47 = dktX3_wishes_2 := dk_seg dksX3_wishes_1 24 rfl rfl
theorem dksX3_wishes_3 : cX3_wishes.data.toList.drop 71 = dktX3_wishes_3 := dk_seg dksX3_wishes_2 24 rfl rfl
theorem dX3_wishes_0 : decode cX3_wishes 0 = .ok (.aload_n 0, 1) := dk_42 (dk_at dksX3_wishes_0 0 rfl rfl)
theorem dX3_wishes_1 : decode cX3_wishes 1 = .ok (.aload_n 0, 1) := dk_42 (dk_at dksX3_wishes_0 1 rfl rfl)
theorem dX3_wishes_2 : decode cX3_wishes 2 = .ok (.getfield 9, 3) := dk_180 0 9 (dk_at dksX3_wishes_0 2 rfl rfl)
theorem dX3_wishes_5 : decode cX3_wishes 5 = .ok (.iconst 2, 1) := dk_5 (dk_at dksX3_wishes_0 5 rfl rfl)
theorem dX3_wishes_6 : decode cX3_wishes 6 = .ok (.iaload, 1) := dk_46 (dk_at dksX3_wishes_0 6 rfl rfl)
theorem dX3_wishes_7 : decode cX3_wishes 7 = .ok (.bipush 12, 2) := dk_16 12 (dk_at dksX3_wishes_0 7 rfl rfl)
theorem dX3_wishes_9 : decode cX3_wishes 9 = .ok (.if_icmp .ne 7, 3) := dk_160 0 7 (dk_at dksX3_wishes_0 9 rfl rfl)
theorem dX3_wishes_12 : decode cX3_wishes 12 = .ok (.iconst 1, 1) := dk_4 (dk_at dksX3_wishes_0 12 rfl rfl)
theorem dX3_wishes_13 : decode cX3_wishes 13 = .ok (.goto 4, 3) := dk_167 0 4 (dk_at dksX3_wishes_0 13 rfl rfl)
theorem dX3_wishes_16 : decode cX3_wishes 16 = .ok (.iconst 0, 1) := dk_3 (dk_at dksX3_wishes_0 16 rfl rfl)
theorem dX3_wishes_17 : decode cX3_wishes 17 = .ok (.iconst 1, 1) := dk_4 (dk_at dksX3_wishes_0 17 rfl rfl)
theorem dX3_wishes_18 : decode cX3_wishes 18 = .ok (.bipush 12, 2) := dk_16 12 (dk_at dksX3_wishes_0 18 rfl rfl)
theorem dX3_wishes_20 : decode cX3_wishes 20 = .ok (.invokevirtual 95, 3) := dk_182 0 95 (dk_at dksX3_wishes_0 20 rfl rfl)
theorem dX3_wishes_23 : decode cX3_wishes 23 = .ok (.ifCond .eq 5, 3) := dk_153 0 5 (dk_at dksX3_wishes_1 0 rfl rfl)
theorem dX3_wishes_26 : decode cX3_wishes 26 = .ok (.iconst 0, 1) := dk_3 (dk_at dksX3_wishes_1 3 rfl rfl)
theorem dX3_wishes_27 : decode cX3_wishes 27 = .ok (.ireturn, 1) := dk_172 (dk_at dksX3_wishes_1 4 rfl rfl)
theorem dX3_wishes_28 : decode cX3_wishes 28 = .ok (.aload_n 0, 1) := dk_42 (dk_at dksX3_wishes_1 5 rfl rfl)
theorem dX3_wishes_29 : decode cX3_wishes 29 = .ok (.getfield 9, 3) := dk_180 0 9 (dk_at dksX3_wishes_1 6 rfl rfl)
theorem dX3_wishes_32 : decode cX3_wishes 32 = .ok (.iconst 2, 1) := dk_5 (dk_at dksX3_wishes_1 9 rfl rfl)
theorem dX3_wishes_33 : decode cX3_wishes 33 = .ok (.iaload, 1) := dk_46 (dk_at dksX3_wishes_1 10 rfl rfl)
theorem dX3_wishes_34 : decode cX3_wishes 34 = .ok (.istore 4, 2) := dk_54 4 (dk_at dksX3_wishes_1 11 rfl rfl)
theorem dX3_wishes_36 : decode cX3_wishes 36 = .ok (.aload_n 0, 1) := dk_42 (dk_at dksX3_wishes_1 13 rfl rfl)
theorem dX3_wishes_37 : decode cX3_wishes 37 = .ok (.getfield 9, 3) := dk_180 0 9 (dk_at dksX3_wishes_1 14 rfl rfl)
theorem dX3_wishes_40 : decode cX3_wishes 40 = .ok (.iload 4, 2) := dk_21 4 (dk_at dksX3_wishes_1 17 rfl rfl)
theorem dX3_wishes_42 : decode cX3_wishes 42 = .ok (.iconst 0, 1) := dk_3 (dk_at dksX3_wishes_1 19 rfl rfl)
theorem dX3_wishes_43 : decode cX3_wishes 43 = .ok (.invokestatic 67, 3) := dk_184 0 67 (dk_at dksX3_wishes_1 20 rfl rfl)
theorem dX3_wishes_46 : decode cX3_wishes 46 = .ok (.iload_n 2, 1) := dk_28 (dk_at dksX3_wishes_1 23 rfl rfl)
theorem dX3_wishes_47 : decode cX3_wishes 47 = .ok (.iastore, 1) := dk_79 (dk_at dksX3_wishes_2 0 rfl rfl)
theorem dX3_wishes_48 : decode cX3_wishes 48 = .ok (.aload_n 0, 1) := dk_42 (dk_at dksX3_wishes_2 1 rfl rfl)
theorem dX3_wishes_49 : decode cX3_wishes 49 = .ok (.getfield 9, 3) := dk_180 0 9 (dk_at dksX3_wishes_2 2 rfl rfl)
theorem dX3_wishes_52 : decode cX3_wishes 52 = .ok (.iload 4, 2) := dk_21 4 (dk_at dksX3_wishes_2 5 rfl rfl)
theorem dX3_wishes_54 : decode cX3_wishes 54 = .ok (.iconst 1, 1) := dk_4 (dk_at dksX3_wishes_2 7 rfl rfl)
theorem dX3_wishes_55 : decode cX3_wishes 55 = .ok (.invokestatic 67, 3) := dk_184 0 67 (dk_at dksX3_wishes_2 8 rfl rfl)
theorem dX3_wishes_58 : decode cX3_wishes 58 = .ok (.iload_n 3, 1) := dk_29 (dk_at dksX3_wishes_2 11 rfl rfl)
theorem dX3_wishes_59 : decode cX3_wishes 59 = .ok (.iastore, 1) := dk_79 (dk_at dksX3_wishes_2 12 rfl rfl)
theorem dX3_wishes_60 : decode cX3_wishes 60 = .ok (.aload_n 0, 1) := dk_42 (dk_at dksX3_wishes_2 13 rfl rfl)
theorem dX3_wishes_61 : decode cX3_wishes 61 = .ok (.getfield 9, 3) := dk_180 0 9 (dk_at dksX3_wishes_2 14 rfl rfl)
theorem dX3_wishes_64 : decode cX3_wishes 64 = .ok (.iload 4, 2) := dk_21 4 (dk_at dksX3_wishes_2 17 rfl rfl)
theorem dX3_wishes_66 : decode cX3_wishes 66 = .ok (.iconst 2, 1) := dk_5 (dk_at dksX3_wishes_2 19 rfl rfl)
theorem dX3_wishes_67 : decode cX3_wishes 67 = .ok (.invokestatic 67, 3) := dk_184 0 67 (dk_at dksX3_wishes_2 20 rfl rfl)
theorem dX3_wishes_70 : decode cX3_wishes 70 = .ok (.iload_n 1, 1) := dk_27 (dk_at dksX3_wishes_2 23 rfl rfl)
theorem dX3_wishes_71 : decode cX3_wishes 71 = .ok (.iastore, 1) := dk_79 (dk_at dksX3_wishes_3 0 rfl rfl)
theorem dX3_wishes_72 : decode cX3_wishes 72 = .ok (.aload_n 0, 1) := dk_42 (dk_at dksX3_wishes_3 1 rfl rfl)
theorem dX3_wishes_73 : decode cX3_wishes 73 = .ok (.getfield 9, 3) := dk_180 0 9 (dk_at dksX3_wishes_3 2 rfl rfl)
theorem dX3_wishes_76 : decode cX3_wishes 76 = .ok (.iconst 2, 1) := dk_5 (dk_at dksX3_wishes_3 5 rfl rfl)
theorem dX3_wishes_77 : decode cX3_wishes 77 = .ok (.dup2, 1) := dk_92 (dk_at dksX3_wishes_3 6 rfl rfl)
theorem dX3_wishes_78 : decode cX3_wishes 78 = .ok (.iaload, 1) := dk_46 (dk_at dksX3_wishes_3 7 rfl rfl)
theorem dX3_wishes_79 : decode cX3_wishes 79 = .ok (.iconst 1, 1) := dk_4 (dk_at dksX3_wishes_3 8 rfl rfl)
theorem dX3_wishes_80 : decode cX3_wishes 80 = .ok (.iadd, 1) := dk_96 (dk_at dksX3_wishes_3 9 rfl rfl)
theorem dX3_wishes_81 : decode cX3_wishes 81 = .ok (.iastore, 1) := dk_79 (dk_at dksX3_wishes_3 10 rfl rfl)
theorem dX3_wishes_82 : decode cX3_wishes 82 = .ok (.iload 4, 2) := dk_21 4 (dk_at dksX3_wishes_3 11 rfl rfl)
theorem dX3_wishes_84 : decode cX3_wishes 84 = .ok (.ireturn, 1) := dk_172 (dk_at dksX3_wishes_3 13 rfl rfl)
abbrev cX3_wishAt : ByteArray := prog_16_method_14_code
def yX3_wishAt : MethodName := ⟨RX3, "wishAt", "(II)I"⟩
def dkwX3_wishAt_0 : List UInt8 := [17, 0, 161, 6, 26, 104, 96, 27, 96, 172]
abbrev dktX3_wishAt_0 : List UInt8 := dkwX3_wishAt_0 ++ []
theorem dksX3_wishAt_0 : cX3_wishAt.data.toList.drop 0 = dktX3_wishAt_0 := by decide +kernel
theorem dX3_wishAt_0 : decode cX3_wishAt 0 = .ok (.sipush 161, 3) := dk_17 0 161 (dk_at dksX3_wishAt_0 0 rfl rfl)
theorem dX3_wishAt_3 : decode cX3_wishAt 3 = .ok (.iconst 3, 1) := dk_6 (dk_at dksX3_wishAt_0 3 rfl rfl)
theorem dX3_wishAt_4 : decode cX3_wishAt 4 = .ok (.iload_n 0, 1) := dk_26 (dk_at dksX3_wishAt_0 4 rfl rfl)
theorem dX3_wishAt_5 : decode cX3_wishAt 5 = .ok (.imul, 1) := dk_104 (dk_at dksX3_wishAt_0 5 rfl rfl)
theorem dX3_wishAt_6 : decode cX3_wishAt 6 = .ok (.iadd, 1) := dk_96 (dk_at dksX3_wishAt_0 6 rfl rfl)
theorem dX3_wishAt_7 : decode cX3_wishAt 7 = .ok (.iload_n 1, 1) := dk_27 (dk_at dksX3_wishAt_0 7 rfl rfl)
theorem dX3_wishAt_8 : decode cX3_wishAt 8 = .ok (.iadd, 1) := dk_96 (dk_at dksX3_wishAt_0 8 rfl rfl)
theorem dX3_wishAt_9 : decode cX3_wishAt 9 = .ok (.ireturn, 1) := dk_172 (dk_at dksX3_wishAt_0 9 rfl rfl)
abbrev cX3_drop : ByteArray := prog_16_method_45_code
def yX3_drop : MethodName := ⟨RX3, "drop", "(I)I"⟩
def dkwX3_drop_1 : List UInt8 := [153, 0, 5, 3, 172, 42, 42, 27, 182, 0, 158, 5, 182, 0, 99, 172]
abbrev dktX3_drop_1 : List UInt8 := dkwX3_drop_1 ++ []
def dkwX3_drop_0 : List UInt8 := [42, 182, 0, 88, 42, 42, 27, 182, 0, 155, 154, 0, 7, 4, 167, 0, 4, 3, 4, 182, 0, 91]
abbrev dktX3_drop_0 : List UInt8 := dkwX3_drop_0 ++ dktX3_drop_1
theorem dksX3_drop_0 : cX3_drop.data.toList.drop 0 = dktX3_drop_0 := by decide +kernel
theorem dksX3_drop_1 : cX3_drop.data.toList.drop 22 = dktX3_drop_1 := dk_seg dksX3_drop_0 22 rfl rfl
theorem dX3_drop_0 : decode cX3_drop 0 = .ok (.aload_n 0, 1) := dk_42 (dk_at dksX3_drop_0 0 rfl rfl)
theorem dX3_drop_1 : decode cX3_drop 1 = .ok (.invokevirtual 88, 3) := dk_182 0 88 (dk_at dksX3_drop_0 1 rfl rfl)
theorem dX3_drop_4 : decode cX3_drop 4 = .ok (.aload_n 0, 1) := dk_42 (dk_at dksX3_drop_0 4 rfl rfl)
theorem dX3_drop_5 : decode cX3_drop 5 = .ok (.aload_n 0, 1) := dk_42 (dk_at dksX3_drop_0 5 rfl rfl)
theorem dX3_drop_6 : decode cX3_drop 6 = .ok (.iload_n 1, 1) := dk_27 (dk_at dksX3_drop_0 6 rfl rfl)
theorem dX3_drop_7 : decode cX3_drop 7 = .ok (.invokevirtual 155, 3) := dk_182 0 155 (dk_at dksX3_drop_0 7 rfl rfl)
theorem dX3_drop_10 : decode cX3_drop 10 = .ok (.ifCond .ne 7, 3) := dk_154 0 7 (dk_at dksX3_drop_0 10 rfl rfl)
theorem dX3_drop_13 : decode cX3_drop 13 = .ok (.iconst 1, 1) := dk_4 (dk_at dksX3_drop_0 13 rfl rfl)
theorem dX3_drop_14 : decode cX3_drop 14 = .ok (.goto 4, 3) := dk_167 0 4 (dk_at dksX3_drop_0 14 rfl rfl)
theorem dX3_drop_17 : decode cX3_drop 17 = .ok (.iconst 0, 1) := dk_3 (dk_at dksX3_drop_0 17 rfl rfl)
theorem dX3_drop_18 : decode cX3_drop 18 = .ok (.iconst 1, 1) := dk_4 (dk_at dksX3_drop_0 18 rfl rfl)
theorem dX3_drop_19 : decode cX3_drop 19 = .ok (.invokevirtual 91, 3) := dk_182 0 91 (dk_at dksX3_drop_0 19 rfl rfl)
theorem dX3_drop_22 : decode cX3_drop 22 = .ok (.ifCond .eq 5, 3) := dk_153 0 5 (dk_at dksX3_drop_1 0 rfl rfl)
theorem dX3_drop_25 : decode cX3_drop 25 = .ok (.iconst 0, 1) := dk_3 (dk_at dksX3_drop_1 3 rfl rfl)
theorem dX3_drop_26 : decode cX3_drop 26 = .ok (.ireturn, 1) := dk_172 (dk_at dksX3_drop_1 4 rfl rfl)
theorem dX3_drop_27 : decode cX3_drop 27 = .ok (.aload_n 0, 1) := dk_42 (dk_at dksX3_drop_1 5 rfl rfl)
theorem dX3_drop_28 : decode cX3_drop 28 = .ok (.aload_n 0, 1) := dk_42 (dk_at dksX3_drop_1 6 rfl rfl)
theorem dX3_drop_29 : decode cX3_drop 29 = .ok (.iload_n 1, 1) := dk_27 (dk_at dksX3_drop_1 7 rfl rfl)
theorem dX3_drop_30 : decode cX3_drop 30 = .ok (.invokevirtual 158, 3) := dk_182 0 158 (dk_at dksX3_drop_1 8 rfl rfl)
theorem dX3_drop_33 : decode cX3_drop 33 = .ok (.iconst 2, 1) := dk_5 (dk_at dksX3_drop_1 11 rfl rfl)
theorem dX3_drop_34 : decode cX3_drop 34 = .ok (.invokevirtual 99, 3) := dk_182 0 99 (dk_at dksX3_drop_1 12 rfl rfl)
theorem dX3_drop_37 : decode cX3_drop 37 = .ok (.ireturn, 1) := dk_172 (dk_at dksX3_drop_1 15 rfl rfl)
abbrev cX3_isWish : ByteArray := prog_16_method_18_code
def yX3_isWish : MethodName := ⟨RX3, "isWish", "(I)Z"⟩
def dkwX3_isWish_0 : List UInt8 := [27, 3, 42, 180, 0, 9, 5, 46, 4, 100, 184, 0, 70, 172]
abbrev dktX3_isWish_0 : List UInt8 := dkwX3_isWish_0 ++ []
theorem dksX3_isWish_0 : cX3_isWish.data.toList.drop 0 = dktX3_isWish_0 := by decide +kernel
theorem dX3_isWish_0 : decode cX3_isWish 0 = .ok (.iload_n 1, 1) := dk_27 (dk_at dksX3_isWish_0 0 rfl rfl)
theorem dX3_isWish_1 : decode cX3_isWish 1 = .ok (.iconst 0, 1) := dk_3 (dk_at dksX3_isWish_0 1 rfl rfl)
theorem dX3_isWish_2 : decode cX3_isWish 2 = .ok (.aload_n 0, 1) := dk_42 (dk_at dksX3_isWish_0 2 rfl rfl)
theorem dX3_isWish_3 : decode cX3_isWish 3 = .ok (.getfield 9, 3) := dk_180 0 9 (dk_at dksX3_isWish_0 3 rfl rfl)
theorem dX3_isWish_6 : decode cX3_isWish 6 = .ok (.iconst 2, 1) := dk_5 (dk_at dksX3_isWish_0 6 rfl rfl)
theorem dX3_isWish_7 : decode cX3_isWish 7 = .ok (.iaload, 1) := dk_46 (dk_at dksX3_isWish_0 7 rfl rfl)
theorem dX3_isWish_8 : decode cX3_isWish 8 = .ok (.iconst 1, 1) := dk_4 (dk_at dksX3_isWish_0 8 rfl rfl)
theorem dX3_isWish_9 : decode cX3_isWish 9 = .ok (.isub, 1) := dk_100 (dk_at dksX3_isWish_0 9 rfl rfl)
theorem dX3_isWish_10 : decode cX3_isWish 10 = .ok (.invokestatic 70, 3) := dk_184 0 70 (dk_at dksX3_isWish_0 10 rfl rfl)
theorem dX3_isWish_13 : decode cX3_isWish 13 = .ok (.ireturn, 1) := dk_172 (dk_at dksX3_isWish_0 13 rfl rfl)
abbrev cX3_drops : ByteArray := prog_16_method_44_code
def yX3_drops : MethodName := ⟨RX3, "drops", "(I)I"⟩
def dkwX3_drops_3 : List UInt8 := [3, 79, 132, 2, 1, 167, 255, 232, 42, 180, 0, 9, 5, 46, 172]
abbrev dktX3_drops_3 : List UInt8 := dkwX3_drops_3 ++ []
def dkwX3_drops_2 : List UInt8 := [167, 255, 225, 3, 61, 28, 6, 162, 0, 25, 42, 180, 0, 9, 42, 180, 0, 9, 5, 46, 28, 184, 0, 67]
abbrev dktX3_drops_2 : List UInt8 := dkwX3_drops_2 ++ dktX3_drops_3
def dkwX3_drops_1 : List UInt8 := [184, 0, 67, 162, 0, 23, 42, 180, 0, 9, 28, 42, 180, 0, 9, 28, 6, 96, 46, 79, 132, 2, 1]
abbrev dktX3_drops_1 : List UInt8 := dkwX3_drops_1 ++ dktX3_drops_2
def dkwX3_drops_0 : List UInt8 := [42, 180, 0, 9, 5, 92, 46, 4, 100, 79, 27, 3, 184, 0, 67, 61, 28, 42, 180, 0, 9, 5, 46, 3]
abbrev dktX3_drops_0 : List UInt8 := dkwX3_drops_0 ++ dktX3_drops_1
theorem dksX3_drops_0 : cX3_drops.data.toList.drop 0 = dktX3_drops_0 := by decide +kernel
theorem dksX3_drops_1 : cX3_drops.data.toList.drop 24 = dktX3_drops_1 := dk_seg dksX3_drops_0 24 rfl rfl
theorem dksX3_drops_2 : cX3_drops.data.toList.drop 47 = dktX3_drops_2 := dk_seg dksX3_drops_1 23 rfl rfl
theorem dksX3_drops_3 : cX3_drops.data.toList.drop 71 = dktX3_drops_3 := dk_seg dksX3_drops_2 24 rfl rfl
theorem dX3_drops_0 : decode cX3_drops 0 = .ok (.aload_n 0, 1) := dk_42 (dk_at dksX3_drops_0 0 rfl rfl)
theorem dX3_drops_1 : decode cX3_drops 1 = .ok (.getfield 9, 3) := dk_180 0 9 (dk_at dksX3_drops_0 1 rfl rfl)
theorem dX3_drops_4 : decode cX3_drops 4 = .ok (.iconst 2, 1) := dk_5 (dk_at dksX3_drops_0 4 rfl rfl)
theorem dX3_drops_5 : decode cX3_drops 5 = .ok (.dup2, 1) := dk_92 (dk_at dksX3_drops_0 5 rfl rfl)
theorem dX3_drops_6 : decode cX3_drops 6 = .ok (.iaload, 1) := dk_46 (dk_at dksX3_drops_0 6 rfl rfl)
theorem dX3_drops_7 : decode cX3_drops 7 = .ok (.iconst 1, 1) := dk_4 (dk_at dksX3_drops_0 7 rfl rfl)
theorem dX3_drops_8 : decode cX3_drops 8 = .ok (.isub, 1) := dk_100 (dk_at dksX3_drops_0 8 rfl rfl)
theorem dX3_drops_9 : decode cX3_drops 9 = .ok (.iastore, 1) := dk_79 (dk_at dksX3_drops_0 9 rfl rfl)
theorem dX3_drops_10 : decode cX3_drops 10 = .ok (.iload_n 1, 1) := dk_27 (dk_at dksX3_drops_0 10 rfl rfl)
theorem dX3_drops_11 : decode cX3_drops 11 = .ok (.iconst 0, 1) := dk_3 (dk_at dksX3_drops_0 11 rfl rfl)
theorem dX3_drops_12 : decode cX3_drops 12 = .ok (.invokestatic 67, 3) := dk_184 0 67 (dk_at dksX3_drops_0 12 rfl rfl)
theorem dX3_drops_15 : decode cX3_drops 15 = .ok (.istore_n 2, 1) := dk_61 (dk_at dksX3_drops_0 15 rfl rfl)
theorem dX3_drops_16 : decode cX3_drops 16 = .ok (.iload_n 2, 1) := dk_28 (dk_at dksX3_drops_0 16 rfl rfl)
theorem dX3_drops_17 : decode cX3_drops 17 = .ok (.aload_n 0, 1) := dk_42 (dk_at dksX3_drops_0 17 rfl rfl)
theorem dX3_drops_18 : decode cX3_drops 18 = .ok (.getfield 9, 3) := dk_180 0 9 (dk_at dksX3_drops_0 18 rfl rfl)
theorem dX3_drops_21 : decode cX3_drops 21 = .ok (.iconst 2, 1) := dk_5 (dk_at dksX3_drops_0 21 rfl rfl)
theorem dX3_drops_22 : decode cX3_drops 22 = .ok (.iaload, 1) := dk_46 (dk_at dksX3_drops_0 22 rfl rfl)
theorem dX3_drops_23 : decode cX3_drops 23 = .ok (.iconst 0, 1) := dk_3 (dk_at dksX3_drops_0 23 rfl rfl)
theorem dX3_drops_24 : decode cX3_drops 24 = .ok (.invokestatic 67, 3) := dk_184 0 67 (dk_at dksX3_drops_1 0 rfl rfl)
theorem dX3_drops_27 : decode cX3_drops 27 = .ok (.if_icmp .ge 23, 3) := dk_162 0 23 (dk_at dksX3_drops_1 3 rfl rfl)
theorem dX3_drops_30 : decode cX3_drops 30 = .ok (.aload_n 0, 1) := dk_42 (dk_at dksX3_drops_1 6 rfl rfl)
theorem dX3_drops_31 : decode cX3_drops 31 = .ok (.getfield 9, 3) := dk_180 0 9 (dk_at dksX3_drops_1 7 rfl rfl)
theorem dX3_drops_34 : decode cX3_drops 34 = .ok (.iload_n 2, 1) := dk_28 (dk_at dksX3_drops_1 10 rfl rfl)
theorem dX3_drops_35 : decode cX3_drops 35 = .ok (.aload_n 0, 1) := dk_42 (dk_at dksX3_drops_1 11 rfl rfl)
theorem dX3_drops_36 : decode cX3_drops 36 = .ok (.getfield 9, 3) := dk_180 0 9 (dk_at dksX3_drops_1 12 rfl rfl)
theorem dX3_drops_39 : decode cX3_drops 39 = .ok (.iload_n 2, 1) := dk_28 (dk_at dksX3_drops_1 15 rfl rfl)
theorem dX3_drops_40 : decode cX3_drops 40 = .ok (.iconst 3, 1) := dk_6 (dk_at dksX3_drops_1 16 rfl rfl)
theorem dX3_drops_41 : decode cX3_drops 41 = .ok (.iadd, 1) := dk_96 (dk_at dksX3_drops_1 17 rfl rfl)
theorem dX3_drops_42 : decode cX3_drops 42 = .ok (.iaload, 1) := dk_46 (dk_at dksX3_drops_1 18 rfl rfl)
theorem dX3_drops_43 : decode cX3_drops 43 = .ok (.iastore, 1) := dk_79 (dk_at dksX3_drops_1 19 rfl rfl)
theorem dX3_drops_44 : decode cX3_drops 44 = .ok (.iinc 2 1, 3) := dk_132 2 1 (dk_at dksX3_drops_1 20 rfl rfl)
theorem dX3_drops_47 : decode cX3_drops 47 = .ok (.goto (-31), 3) := dk_167 255 225 (dk_at dksX3_drops_2 0 rfl rfl)
theorem dX3_drops_50 : decode cX3_drops 50 = .ok (.iconst 0, 1) := dk_3 (dk_at dksX3_drops_2 3 rfl rfl)
theorem dX3_drops_51 : decode cX3_drops 51 = .ok (.istore_n 2, 1) := dk_61 (dk_at dksX3_drops_2 4 rfl rfl)
theorem dX3_drops_52 : decode cX3_drops 52 = .ok (.iload_n 2, 1) := dk_28 (dk_at dksX3_drops_2 5 rfl rfl)
theorem dX3_drops_53 : decode cX3_drops 53 = .ok (.iconst 3, 1) := dk_6 (dk_at dksX3_drops_2 6 rfl rfl)
theorem dX3_drops_54 : decode cX3_drops 54 = .ok (.if_icmp .ge 25, 3) := dk_162 0 25 (dk_at dksX3_drops_2 7 rfl rfl)
theorem dX3_drops_57 : decode cX3_drops 57 = .ok (.aload_n 0, 1) := dk_42 (dk_at dksX3_drops_2 10 rfl rfl)
theorem dX3_drops_58 : decode cX3_drops 58 = .ok (.getfield 9, 3) := dk_180 0 9 (dk_at dksX3_drops_2 11 rfl rfl)
theorem dX3_drops_61 : decode cX3_drops 61 = .ok (.aload_n 0, 1) := dk_42 (dk_at dksX3_drops_2 14 rfl rfl)
theorem dX3_drops_62 : decode cX3_drops 62 = .ok (.getfield 9, 3) := dk_180 0 9 (dk_at dksX3_drops_2 15 rfl rfl)
theorem dX3_drops_65 : decode cX3_drops 65 = .ok (.iconst 2, 1) := dk_5 (dk_at dksX3_drops_2 18 rfl rfl)
theorem dX3_drops_66 : decode cX3_drops 66 = .ok (.iaload, 1) := dk_46 (dk_at dksX3_drops_2 19 rfl rfl)
theorem dX3_drops_67 : decode cX3_drops 67 = .ok (.iload_n 2, 1) := dk_28 (dk_at dksX3_drops_2 20 rfl rfl)
theorem dX3_drops_68 : decode cX3_drops 68 = .ok (.invokestatic 67, 3) := dk_184 0 67 (dk_at dksX3_drops_2 21 rfl rfl)
theorem dX3_drops_71 : decode cX3_drops 71 = .ok (.iconst 0, 1) := dk_3 (dk_at dksX3_drops_3 0 rfl rfl)
theorem dX3_drops_72 : decode cX3_drops 72 = .ok (.iastore, 1) := dk_79 (dk_at dksX3_drops_3 1 rfl rfl)
theorem dX3_drops_73 : decode cX3_drops 73 = .ok (.iinc 2 1, 3) := dk_132 2 1 (dk_at dksX3_drops_3 2 rfl rfl)
theorem dX3_drops_76 : decode cX3_drops 76 = .ok (.goto (-24), 3) := dk_167 255 232 (dk_at dksX3_drops_3 5 rfl rfl)
theorem dX3_drops_79 : decode cX3_drops 79 = .ok (.aload_n 0, 1) := dk_42 (dk_at dksX3_drops_3 8 rfl rfl)
theorem dX3_drops_80 : decode cX3_drops 80 = .ok (.getfield 9, 3) := dk_180 0 9 (dk_at dksX3_drops_3 9 rfl rfl)
theorem dX3_drops_83 : decode cX3_drops 83 = .ok (.iconst 2, 1) := dk_5 (dk_at dksX3_drops_3 12 rfl rfl)
theorem dX3_drops_84 : decode cX3_drops 84 = .ok (.iaload, 1) := dk_46 (dk_at dksX3_drops_3 13 rfl rfl)
theorem dX3_drops_85 : decode cX3_drops 85 = .ok (.ireturn, 1) := dk_172 (dk_at dksX3_drops_3 14 rfl rfl)
abbrev cX3_wishOf : ByteArray := prog_16_method_46_code
def yX3_wishOf : MethodName := ⟨RX3, "wishOf", "(II)I"⟩
def dkwX3_wishOf_2 : List UInt8 := [182, 0, 161, 172]
abbrev dktX3_wishOf_2 : List UInt8 := dkwX3_wishOf_2 ++ []
def dkwX3_wishOf_1 : List UInt8 := [5, 184, 0, 70, 154, 0, 7, 4, 167, 0, 4, 3, 5, 182, 0, 91, 153, 0, 5, 3, 172, 42, 27, 28]
abbrev dktX3_wishOf_1 : List UInt8 := dkwX3_wishOf_1 ++ dktX3_wishOf_2
def dkwX3_wishOf_0 : List UInt8 := [42, 42, 27, 182, 0, 155, 154, 0, 7, 4, 167, 0, 4, 3, 4, 182, 0, 91, 154, 0, 25, 42, 28, 3]
abbrev dktX3_wishOf_0 : List UInt8 := dkwX3_wishOf_0 ++ dktX3_wishOf_1
theorem dksX3_wishOf_0 : cX3_wishOf.data.toList.drop 0 = dktX3_wishOf_0 := by decide +kernel
theorem dksX3_wishOf_1 : cX3_wishOf.data.toList.drop 24 = dktX3_wishOf_1 := dk_seg dksX3_wishOf_0 24 rfl rfl
theorem dksX3_wishOf_2 : cX3_wishOf.data.toList.drop 48 = dktX3_wishOf_2 := dk_seg dksX3_wishOf_1 24 rfl rfl
theorem dX3_wishOf_0 : decode cX3_wishOf 0 = .ok (.aload_n 0, 1) := dk_42 (dk_at dksX3_wishOf_0 0 rfl rfl)
theorem dX3_wishOf_1 : decode cX3_wishOf 1 = .ok (.aload_n 0, 1) := dk_42 (dk_at dksX3_wishOf_0 1 rfl rfl)
theorem dX3_wishOf_2 : decode cX3_wishOf 2 = .ok (.iload_n 1, 1) := dk_27 (dk_at dksX3_wishOf_0 2 rfl rfl)
theorem dX3_wishOf_3 : decode cX3_wishOf 3 = .ok (.invokevirtual 155, 3) := dk_182 0 155 (dk_at dksX3_wishOf_0 3 rfl rfl)
theorem dX3_wishOf_6 : decode cX3_wishOf 6 = .ok (.ifCond .ne 7, 3) := dk_154 0 7 (dk_at dksX3_wishOf_0 6 rfl rfl)
theorem dX3_wishOf_9 : decode cX3_wishOf 9 = .ok (.iconst 1, 1) := dk_4 (dk_at dksX3_wishOf_0 9 rfl rfl)
theorem dX3_wishOf_10 : decode cX3_wishOf 10 = .ok (.goto 4, 3) := dk_167 0 4 (dk_at dksX3_wishOf_0 10 rfl rfl)
theorem dX3_wishOf_13 : decode cX3_wishOf 13 = .ok (.iconst 0, 1) := dk_3 (dk_at dksX3_wishOf_0 13 rfl rfl)
theorem dX3_wishOf_14 : decode cX3_wishOf 14 = .ok (.iconst 1, 1) := dk_4 (dk_at dksX3_wishOf_0 14 rfl rfl)
theorem dX3_wishOf_15 : decode cX3_wishOf 15 = .ok (.invokevirtual 91, 3) := dk_182 0 91 (dk_at dksX3_wishOf_0 15 rfl rfl)
theorem dX3_wishOf_18 : decode cX3_wishOf 18 = .ok (.ifCond .ne 25, 3) := dk_154 0 25 (dk_at dksX3_wishOf_0 18 rfl rfl)
theorem dX3_wishOf_21 : decode cX3_wishOf 21 = .ok (.aload_n 0, 1) := dk_42 (dk_at dksX3_wishOf_0 21 rfl rfl)
theorem dX3_wishOf_22 : decode cX3_wishOf 22 = .ok (.iload_n 2, 1) := dk_28 (dk_at dksX3_wishOf_0 22 rfl rfl)
theorem dX3_wishOf_23 : decode cX3_wishOf 23 = .ok (.iconst 0, 1) := dk_3 (dk_at dksX3_wishOf_0 23 rfl rfl)
theorem dX3_wishOf_24 : decode cX3_wishOf 24 = .ok (.iconst 2, 1) := dk_5 (dk_at dksX3_wishOf_1 0 rfl rfl)
theorem dX3_wishOf_25 : decode cX3_wishOf 25 = .ok (.invokestatic 70, 3) := dk_184 0 70 (dk_at dksX3_wishOf_1 1 rfl rfl)
theorem dX3_wishOf_28 : decode cX3_wishOf 28 = .ok (.ifCond .ne 7, 3) := dk_154 0 7 (dk_at dksX3_wishOf_1 4 rfl rfl)
theorem dX3_wishOf_31 : decode cX3_wishOf 31 = .ok (.iconst 1, 1) := dk_4 (dk_at dksX3_wishOf_1 7 rfl rfl)
theorem dX3_wishOf_32 : decode cX3_wishOf 32 = .ok (.goto 4, 3) := dk_167 0 4 (dk_at dksX3_wishOf_1 8 rfl rfl)
theorem dX3_wishOf_35 : decode cX3_wishOf 35 = .ok (.iconst 0, 1) := dk_3 (dk_at dksX3_wishOf_1 11 rfl rfl)
theorem dX3_wishOf_36 : decode cX3_wishOf 36 = .ok (.iconst 2, 1) := dk_5 (dk_at dksX3_wishOf_1 12 rfl rfl)
theorem dX3_wishOf_37 : decode cX3_wishOf 37 = .ok (.invokevirtual 91, 3) := dk_182 0 91 (dk_at dksX3_wishOf_1 13 rfl rfl)
theorem dX3_wishOf_40 : decode cX3_wishOf 40 = .ok (.ifCond .eq 5, 3) := dk_153 0 5 (dk_at dksX3_wishOf_1 16 rfl rfl)
theorem dX3_wishOf_43 : decode cX3_wishOf 43 = .ok (.iconst 0, 1) := dk_3 (dk_at dksX3_wishOf_1 19 rfl rfl)
theorem dX3_wishOf_44 : decode cX3_wishOf 44 = .ok (.ireturn, 1) := dk_172 (dk_at dksX3_wishOf_1 20 rfl rfl)
theorem dX3_wishOf_45 : decode cX3_wishOf 45 = .ok (.aload_n 0, 1) := dk_42 (dk_at dksX3_wishOf_1 21 rfl rfl)
theorem dX3_wishOf_46 : decode cX3_wishOf 46 = .ok (.iload_n 1, 1) := dk_27 (dk_at dksX3_wishOf_1 22 rfl rfl)
theorem dX3_wishOf_47 : decode cX3_wishOf 47 = .ok (.iload_n 2, 1) := dk_28 (dk_at dksX3_wishOf_1 23 rfl rfl)
theorem dX3_wishOf_48 : decode cX3_wishOf 48 = .ok (.invokevirtual 161, 3) := dk_182 0 161 (dk_at dksX3_wishOf_2 0 rfl rfl)
theorem dX3_wishOf_51 : decode cX3_wishOf 51 = .ok (.ireturn, 1) := dk_172 (dk_at dksX3_wishOf_2 3 rfl rfl)
abbrev cX3_ofWish : ByteArray := prog_16_method_15_code
def yX3_ofWish : MethodName := ⟨RX3, "ofWish", "(II)I"⟩
def dkwX3_ofWish_0 : List UInt8 := [42, 180, 0, 9, 27, 28, 184, 0, 67, 46, 172]
abbrev dktX3_ofWish_0 : List UInt8 := dkwX3_ofWish_0 ++ []
theorem dksX3_ofWish_0 : cX3_ofWish.data.toList.drop 0 = dktX3_ofWish_0 := by decide +kernel
theorem dX3_ofWish_0 : decode cX3_ofWish 0 = .ok (.aload_n 0, 1) := dk_42 (dk_at dksX3_ofWish_0 0 rfl rfl)
theorem dX3_ofWish_1 : decode cX3_ofWish 1 = .ok (.getfield 9, 3) := dk_180 0 9 (dk_at dksX3_ofWish_0 1 rfl rfl)
theorem dX3_ofWish_4 : decode cX3_ofWish 4 = .ok (.iload_n 1, 1) := dk_27 (dk_at dksX3_ofWish_0 4 rfl rfl)
theorem dX3_ofWish_5 : decode cX3_ofWish 5 = .ok (.iload_n 2, 1) := dk_28 (dk_at dksX3_ofWish_0 5 rfl rfl)
theorem dX3_ofWish_6 : decode cX3_ofWish 6 = .ok (.invokestatic 67, 3) := dk_184 0 67 (dk_at dksX3_ofWish_0 6 rfl rfl)
theorem dX3_ofWish_9 : decode cX3_ofWish 9 = .ok (.iaload, 1) := dk_46 (dk_at dksX3_ofWish_0 9 rfl rfl)
theorem dX3_ofWish_10 : decode cX3_ofWish 10 = .ok (.ireturn, 1) := dk_172 (dk_at dksX3_ofWish_0 10 rfl rfl)
abbrev cX3_over : ByteArray := prog_16_method_48_code
def yX3_over : MethodName := ⟨RX3, "over", "(I)I"⟩
def dkwX3_over_1 : List UInt8 := [42, 27, 182, 0, 164, 172]
abbrev dktX3_over_1 : List UInt8 := dkwX3_over_1 ++ []
def dkwX3_over_0 : List UInt8 := [42, 27, 184, 0, 74, 154, 0, 7, 4, 167, 0, 4, 3, 4, 182, 0, 91, 153, 0, 7, 3, 167, 0, 8]
abbrev dktX3_over_0 : List UInt8 := dkwX3_over_0 ++ dktX3_over_1
theorem dksX3_over_0 : cX3_over.data.toList.drop 0 = dktX3_over_0 := by decide +kernel
theorem dksX3_over_1 : cX3_over.data.toList.drop 24 = dktX3_over_1 := dk_seg dksX3_over_0 24 rfl rfl
theorem dX3_over_0 : decode cX3_over 0 = .ok (.aload_n 0, 1) := dk_42 (dk_at dksX3_over_0 0 rfl rfl)
theorem dX3_over_1 : decode cX3_over 1 = .ok (.iload_n 1, 1) := dk_27 (dk_at dksX3_over_0 1 rfl rfl)
theorem dX3_over_2 : decode cX3_over 2 = .ok (.invokestatic 74, 3) := dk_184 0 74 (dk_at dksX3_over_0 2 rfl rfl)
theorem dX3_over_5 : decode cX3_over 5 = .ok (.ifCond .ne 7, 3) := dk_154 0 7 (dk_at dksX3_over_0 5 rfl rfl)
theorem dX3_over_8 : decode cX3_over 8 = .ok (.iconst 1, 1) := dk_4 (dk_at dksX3_over_0 8 rfl rfl)
theorem dX3_over_9 : decode cX3_over 9 = .ok (.goto 4, 3) := dk_167 0 4 (dk_at dksX3_over_0 9 rfl rfl)
theorem dX3_over_12 : decode cX3_over 12 = .ok (.iconst 0, 1) := dk_3 (dk_at dksX3_over_0 12 rfl rfl)
theorem dX3_over_13 : decode cX3_over 13 = .ok (.iconst 1, 1) := dk_4 (dk_at dksX3_over_0 13 rfl rfl)
theorem dX3_over_14 : decode cX3_over 14 = .ok (.invokevirtual 91, 3) := dk_182 0 91 (dk_at dksX3_over_0 14 rfl rfl)
theorem dX3_over_17 : decode cX3_over 17 = .ok (.ifCond .eq 7, 3) := dk_153 0 7 (dk_at dksX3_over_0 17 rfl rfl)
theorem dX3_over_20 : decode cX3_over 20 = .ok (.iconst 0, 1) := dk_3 (dk_at dksX3_over_0 20 rfl rfl)
theorem dX3_over_21 : decode cX3_over 21 = .ok (.goto 8, 3) := dk_167 0 8 (dk_at dksX3_over_0 21 rfl rfl)
theorem dX3_over_24 : decode cX3_over 24 = .ok (.aload_n 0, 1) := dk_42 (dk_at dksX3_over_1 0 rfl rfl)
theorem dX3_over_25 : decode cX3_over 25 = .ok (.iload_n 1, 1) := dk_27 (dk_at dksX3_over_1 1 rfl rfl)
theorem dX3_over_26 : decode cX3_over 26 = .ok (.invokevirtual 164, 3) := dk_182 0 164 (dk_at dksX3_over_1 2 rfl rfl)
theorem dX3_over_29 : decode cX3_over 29 = .ok (.ireturn, 1) := dk_172 (dk_at dksX3_over_1 5 rfl rfl)
abbrev cX3_wishesOver : ByteArray := prog_16_method_47_code
def yX3_wishesOver : MethodName := ⟨RX3, "wishesOver", "(I)I"⟩
def dkwX3_wishesOver_2 : List UInt8 := [167, 255, 214, 28, 172]
abbrev dktX3_wishesOver_2 : List UInt8 := dkwX3_wishesOver_2 ++ []
def dkwX3_wishesOver_1 : List UInt8 := [4, 182, 0, 161, 4, 100, 184, 0, 70, 153, 0, 7, 4, 167, 0, 4, 3, 96, 61, 132, 3, 1]
abbrev dktX3_wishesOver_1 : List UInt8 := dkwX3_wishesOver_1 ++ dktX3_wishesOver_2
def dkwX3_wishesOver_0 : List UInt8 := [3, 61, 3, 62, 29, 42, 180, 0, 9, 5, 46, 162, 0, 38, 28, 27, 42, 29, 3, 182, 0, 161, 42, 29]
abbrev dktX3_wishesOver_0 : List UInt8 := dkwX3_wishesOver_0 ++ dktX3_wishesOver_1
theorem dksX3_wishesOver_0 : cX3_wishesOver.data.toList.drop 0 = dktX3_wishesOver_0 := by decide +kernel
theorem dksX3_wishesOver_1 : cX3_wishesOver.data.toList.drop 24 = dktX3_wishesOver_1 := dk_seg dksX3_wishesOver_0 24 rfl rfl
theorem dksX3_wishesOver_2 : cX3_wishesOver.data.toList.drop 46 = dktX3_wishesOver_2 := dk_seg dksX3_wishesOver_1 22 rfl rfl
theorem dX3_wishesOver_0 : decode cX3_wishesOver 0 = .ok (.iconst 0, 1) := dk_3 (dk_at dksX3_wishesOver_0 0 rfl rfl)
theorem dX3_wishesOver_1 : decode cX3_wishesOver 1 = .ok (.istore_n 2, 1) := dk_61 (dk_at dksX3_wishesOver_0 1 rfl rfl)
theorem dX3_wishesOver_2 : decode cX3_wishesOver 2 = .ok (.iconst 0, 1) := dk_3 (dk_at dksX3_wishesOver_0 2 rfl rfl)
theorem dX3_wishesOver_3 : decode cX3_wishesOver 3 = .ok (.istore_n 3, 1) := dk_62 (dk_at dksX3_wishesOver_0 3 rfl rfl)
theorem dX3_wishesOver_4 : decode cX3_wishesOver 4 = .ok (.iload_n 3, 1) := dk_29 (dk_at dksX3_wishesOver_0 4 rfl rfl)
theorem dX3_wishesOver_5 : decode cX3_wishesOver 5 = .ok (.aload_n 0, 1) := dk_42 (dk_at dksX3_wishesOver_0 5 rfl rfl)
theorem dX3_wishesOver_6 : decode cX3_wishesOver 6 = .ok (.getfield 9, 3) := dk_180 0 9 (dk_at dksX3_wishesOver_0 6 rfl rfl)
theorem dX3_wishesOver_9 : decode cX3_wishesOver 9 = .ok (.iconst 2, 1) := dk_5 (dk_at dksX3_wishesOver_0 9 rfl rfl)
theorem dX3_wishesOver_10 : decode cX3_wishesOver 10 = .ok (.iaload, 1) := dk_46 (dk_at dksX3_wishesOver_0 10 rfl rfl)
theorem dX3_wishesOver_11 : decode cX3_wishesOver 11 = .ok (.if_icmp .ge 38, 3) := dk_162 0 38 (dk_at dksX3_wishesOver_0 11 rfl rfl)
theorem dX3_wishesOver_14 : decode cX3_wishesOver 14 = .ok (.iload_n 2, 1) := dk_28 (dk_at dksX3_wishesOver_0 14 rfl rfl)
theorem dX3_wishesOver_15 : decode cX3_wishesOver 15 = .ok (.iload_n 1, 1) := dk_27 (dk_at dksX3_wishesOver_0 15 rfl rfl)
theorem dX3_wishesOver_16 : decode cX3_wishesOver 16 = .ok (.aload_n 0, 1) := dk_42 (dk_at dksX3_wishesOver_0 16 rfl rfl)
theorem dX3_wishesOver_17 : decode cX3_wishesOver 17 = .ok (.iload_n 3, 1) := dk_29 (dk_at dksX3_wishesOver_0 17 rfl rfl)
theorem dX3_wishesOver_18 : decode cX3_wishesOver 18 = .ok (.iconst 0, 1) := dk_3 (dk_at dksX3_wishesOver_0 18 rfl rfl)
theorem dX3_wishesOver_19 : decode cX3_wishesOver 19 = .ok (.invokevirtual 161, 3) := dk_182 0 161 (dk_at dksX3_wishesOver_0 19 rfl rfl)
theorem dX3_wishesOver_22 : decode cX3_wishesOver 22 = .ok (.aload_n 0, 1) := dk_42 (dk_at dksX3_wishesOver_0 22 rfl rfl)
theorem dX3_wishesOver_23 : decode cX3_wishesOver 23 = .ok (.iload_n 3, 1) := dk_29 (dk_at dksX3_wishesOver_0 23 rfl rfl)
theorem dX3_wishesOver_24 : decode cX3_wishesOver 24 = .ok (.iconst 1, 1) := dk_4 (dk_at dksX3_wishesOver_1 0 rfl rfl)
theorem dX3_wishesOver_25 : decode cX3_wishesOver 25 = .ok (.invokevirtual 161, 3) := dk_182 0 161 (dk_at dksX3_wishesOver_1 1 rfl rfl)
theorem dX3_wishesOver_28 : decode cX3_wishesOver 28 = .ok (.iconst 1, 1) := dk_4 (dk_at dksX3_wishesOver_1 4 rfl rfl)
theorem dX3_wishesOver_29 : decode cX3_wishesOver 29 = .ok (.isub, 1) := dk_100 (dk_at dksX3_wishesOver_1 5 rfl rfl)
theorem dX3_wishesOver_30 : decode cX3_wishesOver 30 = .ok (.invokestatic 70, 3) := dk_184 0 70 (dk_at dksX3_wishesOver_1 6 rfl rfl)
theorem dX3_wishesOver_33 : decode cX3_wishesOver 33 = .ok (.ifCond .eq 7, 3) := dk_153 0 7 (dk_at dksX3_wishesOver_1 9 rfl rfl)
theorem dX3_wishesOver_36 : decode cX3_wishesOver 36 = .ok (.iconst 1, 1) := dk_4 (dk_at dksX3_wishesOver_1 12 rfl rfl)
theorem dX3_wishesOver_37 : decode cX3_wishesOver 37 = .ok (.goto 4, 3) := dk_167 0 4 (dk_at dksX3_wishesOver_1 13 rfl rfl)
theorem dX3_wishesOver_40 : decode cX3_wishesOver 40 = .ok (.iconst 0, 1) := dk_3 (dk_at dksX3_wishesOver_1 16 rfl rfl)
theorem dX3_wishesOver_41 : decode cX3_wishesOver 41 = .ok (.iadd, 1) := dk_96 (dk_at dksX3_wishesOver_1 17 rfl rfl)
theorem dX3_wishesOver_42 : decode cX3_wishesOver 42 = .ok (.istore_n 2, 1) := dk_61 (dk_at dksX3_wishesOver_1 18 rfl rfl)
theorem dX3_wishesOver_43 : decode cX3_wishesOver 43 = .ok (.iinc 3 1, 3) := dk_132 3 1 (dk_at dksX3_wishesOver_1 19 rfl rfl)
theorem dX3_wishesOver_46 : decode cX3_wishesOver 46 = .ok (.goto (-42), 3) := dk_167 255 214 (dk_at dksX3_wishesOver_2 0 rfl rfl)
theorem dX3_wishesOver_49 : decode cX3_wishesOver 49 = .ok (.iload_n 2, 1) := dk_28 (dk_at dksX3_wishesOver_2 3 rfl rfl)
theorem dX3_wishesOver_50 : decode cX3_wishesOver 50 = .ok (.ireturn, 1) := dk_172 (dk_at dksX3_wishesOver_2 4 rfl rfl)
abbrev cX3_overAgain : ByteArray := prog_16_method_49_code
def yX3_overAgain : MethodName := ⟨RX3, "overAgain", "(I)I"⟩
def dkwX3_overAgain_3 : List UInt8 := [132, 3, 1, 167, 255, 207, 28, 172]
abbrev dktX3_overAgain_3 : List UInt8 := dkwX3_overAgain_3 ++ []
def dkwX3_overAgain_2 : List UInt8 := [167, 0, 4, 3, 96, 61, 28, 42, 29, 4, 182, 0, 161, 27, 163, 0, 7, 4, 167, 0, 4, 3, 100, 61]
abbrev dktX3_overAgain_2 : List UInt8 := dkwX3_overAgain_2 ++ dktX3_overAgain_3
def dkwX3_overAgain_1 : List UInt8 := [3, 62, 29, 42, 180, 0, 9, 5, 46, 162, 0, 45, 28, 42, 29, 3, 182, 0, 161, 27, 163, 0, 7, 4]
abbrev dktX3_overAgain_1 : List UInt8 := dkwX3_overAgain_1 ++ dktX3_overAgain_2
def dkwX3_overAgain_0 : List UInt8 := [42, 27, 184, 0, 74, 154, 0, 7, 4, 167, 0, 4, 3, 4, 182, 0, 91, 153, 0, 5, 3, 172, 3, 61]
abbrev dktX3_overAgain_0 : List UInt8 := dkwX3_overAgain_0 ++ dktX3_overAgain_1
theorem dksX3_overAgain_0 : cX3_overAgain.data.toList.drop 0 = dktX3_overAgain_0 := by decide +kernel
theorem dksX3_overAgain_1 : cX3_overAgain.data.toList.drop 24 = dktX3_overAgain_1 := dk_seg dksX3_overAgain_0 24 rfl rfl
theorem dksX3_overAgain_2 : cX3_overAgain.data.toList.drop 48 = dktX3_overAgain_2 := dk_seg dksX3_overAgain_1 24 rfl rfl
theorem dksX3_overAgain_3 : cX3_overAgain.data.toList.drop 72 = dktX3_overAgain_3 := dk_seg dksX3_overAgain_2 24 rfl rfl
theorem dX3_overAgain_0 : decode cX3_overAgain 0 = .ok (.aload_n 0, 1) := dk_42 (dk_at dksX3_overAgain_0 0 rfl rfl)
theorem dX3_overAgain_1 : decode cX3_overAgain 1 = .ok (.iload_n 1, 1) := dk_27 (dk_at dksX3_overAgain_0 1 rfl rfl)
theorem dX3_overAgain_2 : decode cX3_overAgain 2 = .ok (.invokestatic 74, 3) := dk_184 0 74 (dk_at dksX3_overAgain_0 2 rfl rfl)
theorem dX3_overAgain_5 : decode cX3_overAgain 5 = .ok (.ifCond .ne 7, 3) := dk_154 0 7 (dk_at dksX3_overAgain_0 5 rfl rfl)
theorem dX3_overAgain_8 : decode cX3_overAgain 8 = .ok (.iconst 1, 1) := dk_4 (dk_at dksX3_overAgain_0 8 rfl rfl)
theorem dX3_overAgain_9 : decode cX3_overAgain 9 = .ok (.goto 4, 3) := dk_167 0 4 (dk_at dksX3_overAgain_0 9 rfl rfl)
theorem dX3_overAgain_12 : decode cX3_overAgain 12 = .ok (.iconst 0, 1) := dk_3 (dk_at dksX3_overAgain_0 12 rfl rfl)
theorem dX3_overAgain_13 : decode cX3_overAgain 13 = .ok (.iconst 1, 1) := dk_4 (dk_at dksX3_overAgain_0 13 rfl rfl)
theorem dX3_overAgain_14 : decode cX3_overAgain 14 = .ok (.invokevirtual 91, 3) := dk_182 0 91 (dk_at dksX3_overAgain_0 14 rfl rfl)
theorem dX3_overAgain_17 : decode cX3_overAgain 17 = .ok (.ifCond .eq 5, 3) := dk_153 0 5 (dk_at dksX3_overAgain_0 17 rfl rfl)
theorem dX3_overAgain_20 : decode cX3_overAgain 20 = .ok (.iconst 0, 1) := dk_3 (dk_at dksX3_overAgain_0 20 rfl rfl)
theorem dX3_overAgain_21 : decode cX3_overAgain 21 = .ok (.ireturn, 1) := dk_172 (dk_at dksX3_overAgain_0 21 rfl rfl)
theorem dX3_overAgain_22 : decode cX3_overAgain 22 = .ok (.iconst 0, 1) := dk_3 (dk_at dksX3_overAgain_0 22 rfl rfl)
theorem dX3_overAgain_23 : decode cX3_overAgain 23 = .ok (.istore_n 2, 1) := dk_61 (dk_at dksX3_overAgain_0 23 rfl rfl)
theorem dX3_overAgain_24 : decode cX3_overAgain 24 = .ok (.iconst 0, 1) := dk_3 (dk_at dksX3_overAgain_1 0 rfl rfl)
theorem dX3_overAgain_25 : decode cX3_overAgain 25 = .ok (.istore_n 3, 1) := dk_62 (dk_at dksX3_overAgain_1 1 rfl rfl)
theorem dX3_overAgain_26 : decode cX3_overAgain 26 = .ok (.iload_n 3, 1) := dk_29 (dk_at dksX3_overAgain_1 2 rfl rfl)
theorem dX3_overAgain_27 : decode cX3_overAgain 27 = .ok (.aload_n 0, 1) := dk_42 (dk_at dksX3_overAgain_1 3 rfl rfl)
theorem dX3_overAgain_28 : decode cX3_overAgain 28 = .ok (.getfield 9, 3) := dk_180 0 9 (dk_at dksX3_overAgain_1 4 rfl rfl)
theorem dX3_overAgain_31 : decode cX3_overAgain 31 = .ok (.iconst 2, 1) := dk_5 (dk_at dksX3_overAgain_1 7 rfl rfl)
theorem dX3_overAgain_32 : decode cX3_overAgain 32 = .ok (.iaload, 1) := dk_46 (dk_at dksX3_overAgain_1 8 rfl rfl)
theorem dX3_overAgain_33 : decode cX3_overAgain 33 = .ok (.if_icmp .ge 45, 3) := dk_162 0 45 (dk_at dksX3_overAgain_1 9 rfl rfl)
theorem dX3_overAgain_36 : decode cX3_overAgain 36 = .ok (.iload_n 2, 1) := dk_28 (dk_at dksX3_overAgain_1 12 rfl rfl)
theorem dX3_overAgain_37 : decode cX3_overAgain 37 = .ok (.aload_n 0, 1) := dk_42 (dk_at dksX3_overAgain_1 13 rfl rfl)
theorem dX3_overAgain_38 : decode cX3_overAgain 38 = .ok (.iload_n 3, 1) := dk_29 (dk_at dksX3_overAgain_1 14 rfl rfl)
theorem dX3_overAgain_39 : decode cX3_overAgain 39 = .ok (.iconst 0, 1) := dk_3 (dk_at dksX3_overAgain_1 15 rfl rfl)
theorem dX3_overAgain_40 : decode cX3_overAgain 40 = .ok (.invokevirtual 161, 3) := dk_182 0 161 (dk_at dksX3_overAgain_1 16 rfl rfl)
theorem dX3_overAgain_43 : decode cX3_overAgain 43 = .ok (.iload_n 1, 1) := dk_27 (dk_at dksX3_overAgain_1 19 rfl rfl)
theorem dX3_overAgain_44 : decode cX3_overAgain 44 = .ok (.if_icmp .gt 7, 3) := dk_163 0 7 (dk_at dksX3_overAgain_1 20 rfl rfl)
theorem dX3_overAgain_47 : decode cX3_overAgain 47 = .ok (.iconst 1, 1) := dk_4 (dk_at dksX3_overAgain_1 23 rfl rfl)
theorem dX3_overAgain_48 : decode cX3_overAgain 48 = .ok (.goto 4, 3) := dk_167 0 4 (dk_at dksX3_overAgain_2 0 rfl rfl)
theorem dX3_overAgain_51 : decode cX3_overAgain 51 = .ok (.iconst 0, 1) := dk_3 (dk_at dksX3_overAgain_2 3 rfl rfl)
theorem dX3_overAgain_52 : decode cX3_overAgain 52 = .ok (.iadd, 1) := dk_96 (dk_at dksX3_overAgain_2 4 rfl rfl)
theorem dX3_overAgain_53 : decode cX3_overAgain 53 = .ok (.istore_n 2, 1) := dk_61 (dk_at dksX3_overAgain_2 5 rfl rfl)
theorem dX3_overAgain_54 : decode cX3_overAgain 54 = .ok (.iload_n 2, 1) := dk_28 (dk_at dksX3_overAgain_2 6 rfl rfl)
theorem dX3_overAgain_55 : decode cX3_overAgain 55 = .ok (.aload_n 0, 1) := dk_42 (dk_at dksX3_overAgain_2 7 rfl rfl)
theorem dX3_overAgain_56 : decode cX3_overAgain 56 = .ok (.iload_n 3, 1) := dk_29 (dk_at dksX3_overAgain_2 8 rfl rfl)
theorem dX3_overAgain_57 : decode cX3_overAgain 57 = .ok (.iconst 1, 1) := dk_4 (dk_at dksX3_overAgain_2 9 rfl rfl)
theorem dX3_overAgain_58 : decode cX3_overAgain 58 = .ok (.invokevirtual 161, 3) := dk_182 0 161 (dk_at dksX3_overAgain_2 10 rfl rfl)
theorem dX3_overAgain_61 : decode cX3_overAgain 61 = .ok (.iload_n 1, 1) := dk_27 (dk_at dksX3_overAgain_2 13 rfl rfl)
theorem dX3_overAgain_62 : decode cX3_overAgain 62 = .ok (.if_icmp .gt 7, 3) := dk_163 0 7 (dk_at dksX3_overAgain_2 14 rfl rfl)
theorem dX3_overAgain_65 : decode cX3_overAgain 65 = .ok (.iconst 1, 1) := dk_4 (dk_at dksX3_overAgain_2 17 rfl rfl)
theorem dX3_overAgain_66 : decode cX3_overAgain 66 = .ok (.goto 4, 3) := dk_167 0 4 (dk_at dksX3_overAgain_2 18 rfl rfl)
theorem dX3_overAgain_69 : decode cX3_overAgain 69 = .ok (.iconst 0, 1) := dk_3 (dk_at dksX3_overAgain_2 21 rfl rfl)
theorem dX3_overAgain_70 : decode cX3_overAgain 70 = .ok (.isub, 1) := dk_100 (dk_at dksX3_overAgain_2 22 rfl rfl)
theorem dX3_overAgain_71 : decode cX3_overAgain 71 = .ok (.istore_n 2, 1) := dk_61 (dk_at dksX3_overAgain_2 23 rfl rfl)
theorem dX3_overAgain_72 : decode cX3_overAgain 72 = .ok (.iinc 3 1, 3) := dk_132 3 1 (dk_at dksX3_overAgain_3 0 rfl rfl)
theorem dX3_overAgain_75 : decode cX3_overAgain 75 = .ok (.goto (-49), 3) := dk_167 255 207 (dk_at dksX3_overAgain_3 3 rfl rfl)
theorem dX3_overAgain_78 : decode cX3_overAgain 78 = .ok (.iload_n 2, 1) := dk_28 (dk_at dksX3_overAgain_3 6 rfl rfl)
theorem dX3_overAgain_79 : decode cX3_overAgain 79 = .ok (.ireturn, 1) := dk_172 (dk_at dksX3_overAgain_3 7 rfl rfl)
abbrev cX3_busiest : ByteArray := prog_16_method_50_code
def yX3_busiest : MethodName := ⟨RX3, "busiest", "()I"⟩
def dkwX3_busiest_2 : List UInt8 := [28, 167, 0, 4, 27, 60, 132, 2, 1, 167, 255, 227, 27, 172]
abbrev dktX3_busiest_2 : List UInt8 := dkwX3_busiest_2 ++ []
def dkwX3_busiest_1 : List UInt8 := [3, 60, 4, 61, 28, 17, 2, 88, 162, 0, 28, 42, 28, 182, 0, 164, 42, 27, 182, 0, 164, 164, 0, 7]
abbrev dktX3_busiest_1 : List UInt8 := dkwX3_busiest_1 ++ dktX3_busiest_2
def dkwX3_busiest_0 : List UInt8 := [42, 42, 180, 0, 9, 5, 46, 154, 0, 7, 4, 167, 0, 4, 3, 4, 182, 0, 91, 153, 0, 5, 3, 172]
abbrev dktX3_busiest_0 : List UInt8 := dkwX3_busiest_0 ++ dktX3_busiest_1
theorem dksX3_busiest_0 : cX3_busiest.data.toList.drop 0 = dktX3_busiest_0 := by decide +kernel
theorem dksX3_busiest_1 : cX3_busiest.data.toList.drop 24 = dktX3_busiest_1 := dk_seg dksX3_busiest_0 24 rfl rfl
theorem dksX3_busiest_2 : cX3_busiest.data.toList.drop 48 = dktX3_busiest_2 := dk_seg dksX3_busiest_1 24 rfl rfl
theorem dX3_busiest_0 : decode cX3_busiest 0 = .ok (.aload_n 0, 1) := dk_42 (dk_at dksX3_busiest_0 0 rfl rfl)
theorem dX3_busiest_1 : decode cX3_busiest 1 = .ok (.aload_n 0, 1) := dk_42 (dk_at dksX3_busiest_0 1 rfl rfl)
theorem dX3_busiest_2 : decode cX3_busiest 2 = .ok (.getfield 9, 3) := dk_180 0 9 (dk_at dksX3_busiest_0 2 rfl rfl)
theorem dX3_busiest_5 : decode cX3_busiest 5 = .ok (.iconst 2, 1) := dk_5 (dk_at dksX3_busiest_0 5 rfl rfl)
theorem dX3_busiest_6 : decode cX3_busiest 6 = .ok (.iaload, 1) := dk_46 (dk_at dksX3_busiest_0 6 rfl rfl)
theorem dX3_busiest_7 : decode cX3_busiest 7 = .ok (.ifCond .ne 7, 3) := dk_154 0 7 (dk_at dksX3_busiest_0 7 rfl rfl)
theorem dX3_busiest_10 : decode cX3_busiest 10 = .ok (.iconst 1, 1) := dk_4 (dk_at dksX3_busiest_0 10 rfl rfl)
theorem dX3_busiest_11 : decode cX3_busiest 11 = .ok (.goto 4, 3) := dk_167 0 4 (dk_at dksX3_busiest_0 11 rfl rfl)
theorem dX3_busiest_14 : decode cX3_busiest 14 = .ok (.iconst 0, 1) := dk_3 (dk_at dksX3_busiest_0 14 rfl rfl)
theorem dX3_busiest_15 : decode cX3_busiest 15 = .ok (.iconst 1, 1) := dk_4 (dk_at dksX3_busiest_0 15 rfl rfl)
theorem dX3_busiest_16 : decode cX3_busiest 16 = .ok (.invokevirtual 91, 3) := dk_182 0 91 (dk_at dksX3_busiest_0 16 rfl rfl)
theorem dX3_busiest_19 : decode cX3_busiest 19 = .ok (.ifCond .eq 5, 3) := dk_153 0 5 (dk_at dksX3_busiest_0 19 rfl rfl)
theorem dX3_busiest_22 : decode cX3_busiest 22 = .ok (.iconst 0, 1) := dk_3 (dk_at dksX3_busiest_0 22 rfl rfl)
theorem dX3_busiest_23 : decode cX3_busiest 23 = .ok (.ireturn, 1) := dk_172 (dk_at dksX3_busiest_0 23 rfl rfl)
theorem dX3_busiest_24 : decode cX3_busiest 24 = .ok (.iconst 0, 1) := dk_3 (dk_at dksX3_busiest_1 0 rfl rfl)
theorem dX3_busiest_25 : decode cX3_busiest 25 = .ok (.istore_n 1, 1) := dk_60 (dk_at dksX3_busiest_1 1 rfl rfl)
theorem dX3_busiest_26 : decode cX3_busiest 26 = .ok (.iconst 1, 1) := dk_4 (dk_at dksX3_busiest_1 2 rfl rfl)
theorem dX3_busiest_27 : decode cX3_busiest 27 = .ok (.istore_n 2, 1) := dk_61 (dk_at dksX3_busiest_1 3 rfl rfl)
theorem dX3_busiest_28 : decode cX3_busiest 28 = .ok (.iload_n 2, 1) := dk_28 (dk_at dksX3_busiest_1 4 rfl rfl)
theorem dX3_busiest_29 : decode cX3_busiest 29 = .ok (.sipush 600, 3) := dk_17 2 88 (dk_at dksX3_busiest_1 5 rfl rfl)
theorem dX3_busiest_32 : decode cX3_busiest 32 = .ok (.if_icmp .ge 28, 3) := dk_162 0 28 (dk_at dksX3_busiest_1 8 rfl rfl)
theorem dX3_busiest_35 : decode cX3_busiest 35 = .ok (.aload_n 0, 1) := dk_42 (dk_at dksX3_busiest_1 11 rfl rfl)
theorem dX3_busiest_36 : decode cX3_busiest 36 = .ok (.iload_n 2, 1) := dk_28 (dk_at dksX3_busiest_1 12 rfl rfl)
theorem dX3_busiest_37 : decode cX3_busiest 37 = .ok (.invokevirtual 164, 3) := dk_182 0 164 (dk_at dksX3_busiest_1 13 rfl rfl)
theorem dX3_busiest_40 : decode cX3_busiest 40 = .ok (.aload_n 0, 1) := dk_42 (dk_at dksX3_busiest_1 16 rfl rfl)
theorem dX3_busiest_41 : decode cX3_busiest 41 = .ok (.iload_n 1, 1) := dk_27 (dk_at dksX3_busiest_1 17 rfl rfl)
theorem dX3_busiest_42 : decode cX3_busiest 42 = .ok (.invokevirtual 164, 3) := dk_182 0 164 (dk_at dksX3_busiest_1 18 rfl rfl)
theorem dX3_busiest_45 : decode cX3_busiest 45 = .ok (.if_icmp .le 7, 3) := dk_164 0 7 (dk_at dksX3_busiest_1 21 rfl rfl)
theorem dX3_busiest_48 : decode cX3_busiest 48 = .ok (.iload_n 2, 1) := dk_28 (dk_at dksX3_busiest_2 0 rfl rfl)
theorem dX3_busiest_49 : decode cX3_busiest 49 = .ok (.goto 4, 3) := dk_167 0 4 (dk_at dksX3_busiest_2 1 rfl rfl)
theorem dX3_busiest_52 : decode cX3_busiest 52 = .ok (.iload_n 1, 1) := dk_27 (dk_at dksX3_busiest_2 4 rfl rfl)
theorem dX3_busiest_53 : decode cX3_busiest 53 = .ok (.istore_n 1, 1) := dk_60 (dk_at dksX3_busiest_2 5 rfl rfl)
theorem dX3_busiest_54 : decode cX3_busiest 54 = .ok (.iinc 2 1, 3) := dk_132 2 1 (dk_at dksX3_busiest_2 6 rfl rfl)
theorem dX3_busiest_57 : decode cX3_busiest 57 = .ok (.goto (-29), 3) := dk_167 255 227 (dk_at dksX3_busiest_2 9 rfl rfl)
theorem dX3_busiest_60 : decode cX3_busiest 60 = .ok (.iload_n 1, 1) := dk_27 (dk_at dksX3_busiest_2 12 rfl rfl)
theorem dX3_busiest_61 : decode cX3_busiest 61 = .ok (.ireturn, 1) := dk_172 (dk_at dksX3_busiest_2 13 rfl rfl)
abbrev cX3_needs : ByteArray := prog_16_method_51_code
def yX3_needs : MethodName := ⟨RX3, "needs", "()I"⟩
def dkwX3_needs_1 : List UInt8 := [184, 0, 133, 60, 132, 2, 1, 167, 255, 236, 27, 172]
abbrev dktX3_needs_1 : List UInt8 := dkwX3_needs_1 ++ []
def dkwX3_needs_0 : List UInt8 := [42, 3, 181, 0, 41, 3, 60, 3, 61, 28, 17, 2, 88, 162, 0, 19, 27, 42, 28, 182, 0, 164]
abbrev dktX3_needs_0 : List UInt8 := dkwX3_needs_0 ++ dktX3_needs_1
theorem dksX3_needs_0 : cX3_needs.data.toList.drop 0 = dktX3_needs_0 := by decide +kernel
theorem dksX3_needs_1 : cX3_needs.data.toList.drop 22 = dktX3_needs_1 := dk_seg dksX3_needs_0 22 rfl rfl
theorem dX3_needs_0 : decode cX3_needs 0 = .ok (.aload_n 0, 1) := dk_42 (dk_at dksX3_needs_0 0 rfl rfl)
theorem dX3_needs_1 : decode cX3_needs 1 = .ok (.iconst 0, 1) := dk_3 (dk_at dksX3_needs_0 1 rfl rfl)
theorem dX3_needs_2 : decode cX3_needs 2 = .ok (.putfield 41, 3) := dk_181 0 41 (dk_at dksX3_needs_0 2 rfl rfl)
theorem dX3_needs_5 : decode cX3_needs 5 = .ok (.iconst 0, 1) := dk_3 (dk_at dksX3_needs_0 5 rfl rfl)
theorem dX3_needs_6 : decode cX3_needs 6 = .ok (.istore_n 1, 1) := dk_60 (dk_at dksX3_needs_0 6 rfl rfl)
theorem dX3_needs_7 : decode cX3_needs 7 = .ok (.iconst 0, 1) := dk_3 (dk_at dksX3_needs_0 7 rfl rfl)
theorem dX3_needs_8 : decode cX3_needs 8 = .ok (.istore_n 2, 1) := dk_61 (dk_at dksX3_needs_0 8 rfl rfl)
theorem dX3_needs_9 : decode cX3_needs 9 = .ok (.iload_n 2, 1) := dk_28 (dk_at dksX3_needs_0 9 rfl rfl)
theorem dX3_needs_10 : decode cX3_needs 10 = .ok (.sipush 600, 3) := dk_17 2 88 (dk_at dksX3_needs_0 10 rfl rfl)
theorem dX3_needs_13 : decode cX3_needs 13 = .ok (.if_icmp .ge 19, 3) := dk_162 0 19 (dk_at dksX3_needs_0 13 rfl rfl)
theorem dX3_needs_16 : decode cX3_needs 16 = .ok (.iload_n 1, 1) := dk_27 (dk_at dksX3_needs_0 16 rfl rfl)
theorem dX3_needs_17 : decode cX3_needs 17 = .ok (.aload_n 0, 1) := dk_42 (dk_at dksX3_needs_0 17 rfl rfl)
theorem dX3_needs_18 : decode cX3_needs 18 = .ok (.iload_n 2, 1) := dk_28 (dk_at dksX3_needs_0 18 rfl rfl)
theorem dX3_needs_19 : decode cX3_needs 19 = .ok (.invokevirtual 164, 3) := dk_182 0 164 (dk_at dksX3_needs_0 19 rfl rfl)
theorem dX3_needs_22 : decode cX3_needs 22 = .ok (.invokestatic 133, 3) := dk_184 0 133 (dk_at dksX3_needs_1 0 rfl rfl)
theorem dX3_needs_25 : decode cX3_needs 25 = .ok (.istore_n 1, 1) := dk_60 (dk_at dksX3_needs_1 3 rfl rfl)
theorem dX3_needs_26 : decode cX3_needs 26 = .ok (.iinc 2 1, 3) := dk_132 2 1 (dk_at dksX3_needs_1 4 rfl rfl)
theorem dX3_needs_29 : decode cX3_needs 29 = .ok (.goto (-20), 3) := dk_167 255 236 (dk_at dksX3_needs_1 7 rfl rfl)
theorem dX3_needs_32 : decode cX3_needs 32 = .ok (.iload_n 1, 1) := dk_27 (dk_at dksX3_needs_1 10 rfl rfl)
theorem dX3_needs_33 : decode cX3_needs 33 = .ok (.ireturn, 1) := dk_172 (dk_at dksX3_needs_1 11 rfl rfl)
abbrev cX3_needsAgain : ByteArray := prog_16_method_52_code
def yX3_needsAgain : MethodName := ⟨RX3, "needsAgain", "()I"⟩
def dkwX3_needsAgain_7 : List UInt8 := [167, 255, 106, 27, 172]
abbrev dktX3_needsAgain_7 : List UInt8 := dkwX3_needsAgain_7 ++ []
def dkwX3_needsAgain_6 : List UInt8 := [21, 5, 42, 21, 4, 4, 182, 0, 161, 79, 27, 21, 5, 4, 96, 184, 0, 133, 60, 132, 3, 1]
abbrev dktX3_needsAgain_6 : List UInt8 := dkwX3_needsAgain_6 ++ dktX3_needsAgain_7
def dkwX3_needsAgain_5 : List UInt8 := [21, 5, 46, 42, 21, 4, 3, 182, 0, 161, 164, 0, 9, 132, 5, 1, 167, 255, 230, 42, 180, 0, 26]
abbrev dktX3_needsAgain_5 : List UInt8 := dkwX3_needsAgain_5 ++ dktX3_needsAgain_6
def dkwX3_needsAgain_4 : List UInt8 := [167, 255, 190, 28, 4, 21, 4, 120, 128, 61, 3, 54, 5, 21, 5, 27, 162, 0, 26, 42, 180, 0, 26]
abbrev dktX3_needsAgain_4 : List UInt8 := dkwX3_needsAgain_4 ++ dktX3_needsAgain_5
def dkwX3_needsAgain_3 : List UInt8 := [167, 0, 4, 3, 54, 6, 21, 6, 153, 0, 8, 21, 5, 167, 0, 5, 21, 4, 54, 4, 132, 5, 1]
abbrev dktX3_needsAgain_3 : List UInt8 := dkwX3_needsAgain_3 ++ dktX3_needsAgain_4
def dkwX3_needsAgain_2 : List UInt8 := [21, 4, 155, 0, 20, 42, 21, 5, 3, 182, 0, 161, 42, 21, 4, 3, 182, 0, 161, 162, 0, 7, 4]
abbrev dktX3_needsAgain_2 : List UInt8 := dkwX3_needsAgain_2 ++ dktX3_needsAgain_3
def dkwX3_needsAgain_1 : List UInt8 := [3, 54, 5, 21, 5, 42, 180, 0, 9, 5, 46, 162, 0, 61, 28, 21, 5, 122, 4, 126, 154, 0, 29]
abbrev dktX3_needsAgain_1 : List UInt8 := dkwX3_needsAgain_1 ++ dktX3_needsAgain_2
def dkwX3_needsAgain_0 : List UInt8 := [42, 3, 181, 0, 41, 3, 60, 3, 61, 3, 62, 29, 42, 180, 0, 9, 5, 46, 162, 0, 146, 2, 54, 4]
abbrev dktX3_needsAgain_0 : List UInt8 := dkwX3_needsAgain_0 ++ dktX3_needsAgain_1
theorem dksX3_needsAgain_0 : cX3_needsAgain.data.toList.drop 0 = dktX3_needsAgain_0 := by decide +kernel
theorem dksX3_needsAgain_1 : cX3_needsAgain.data.toList.drop 24 = dktX3_needsAgain_1 := dk_seg dksX3_needsAgain_0 24 rfl rfl
theorem dksX3_needsAgain_2 : cX3_needsAgain.data.toList.drop 47 = dktX3_needsAgain_2 := dk_seg dksX3_needsAgain_1 23 rfl rfl
theorem dksX3_needsAgain_3 : cX3_needsAgain.data.toList.drop 70 = dktX3_needsAgain_3 := dk_seg dksX3_needsAgain_2 23 rfl rfl
theorem dksX3_needsAgain_4 : cX3_needsAgain.data.toList.drop 93 = dktX3_needsAgain_4 := dk_seg dksX3_needsAgain_3 23 rfl rfl
theorem dksX3_needsAgain_5 : cX3_needsAgain.data.toList.drop 116 = dktX3_needsAgain_5 := dk_seg dksX3_needsAgain_4 23 rfl rfl
theorem dksX3_needsAgain_6 : cX3_needsAgain.data.toList.drop 139 = dktX3_needsAgain_6 := dk_seg dksX3_needsAgain_5 23 rfl rfl
theorem dksX3_needsAgain_7 : cX3_needsAgain.data.toList.drop 161 = dktX3_needsAgain_7 := dk_seg dksX3_needsAgain_6 22 rfl rfl
theorem dX3_needsAgain_0 : decode cX3_needsAgain 0 = .ok (.aload_n 0, 1) := dk_42 (dk_at dksX3_needsAgain_0 0 rfl rfl)
theorem dX3_needsAgain_1 : decode cX3_needsAgain 1 = .ok (.iconst 0, 1) := dk_3 (dk_at dksX3_needsAgain_0 1 rfl rfl)
theorem dX3_needsAgain_2 : decode cX3_needsAgain 2 = .ok (.putfield 41, 3) := dk_181 0 41 (dk_at dksX3_needsAgain_0 2 rfl rfl)
theorem dX3_needsAgain_5 : decode cX3_needsAgain 5 = .ok (.iconst 0, 1) := dk_3 (dk_at dksX3_needsAgain_0 5 rfl rfl)
theorem dX3_needsAgain_6 : decode cX3_needsAgain 6 = .ok (.istore_n 1, 1) := dk_60 (dk_at dksX3_needsAgain_0 6 rfl rfl)
theorem dX3_needsAgain_7 : decode cX3_needsAgain 7 = .ok (.iconst 0, 1) := dk_3 (dk_at dksX3_needsAgain_0 7 rfl rfl)
theorem dX3_needsAgain_8 : decode cX3_needsAgain 8 = .ok (.istore_n 2, 1) := dk_61 (dk_at dksX3_needsAgain_0 8 rfl rfl)
theorem dX3_needsAgain_9 : decode cX3_needsAgain 9 = .ok (.iconst 0, 1) := dk_3 (dk_at dksX3_needsAgain_0 9 rfl rfl)
theorem dX3_needsAgain_10 : decode cX3_needsAgain 10 = .ok (.istore_n 3, 1) := dk_62 (dk_at dksX3_needsAgain_0 10 rfl rfl)
theorem dX3_needsAgain_11 : decode cX3_needsAgain 11 = .ok (.iload_n 3, 1) := dk_29 (dk_at dksX3_needsAgain_0 11 rfl rfl)
theorem dX3_needsAgain_12 : decode cX3_needsAgain 12 = .ok (.aload_n 0, 1) := dk_42 (dk_at dksX3_needsAgain_0 12 rfl rfl)
theorem dX3_needsAgain_13 : decode cX3_needsAgain 13 = .ok (.getfield 9, 3) := dk_180 0 9 (dk_at dksX3_needsAgain_0 13 rfl rfl)
theorem dX3_needsAgain_16 : decode cX3_needsAgain 16 = .ok (.iconst 2, 1) := dk_5 (dk_at dksX3_needsAgain_0 16 rfl rfl)
theorem dX3_needsAgain_17 : decode cX3_needsAgain 17 = .ok (.iaload, 1) := dk_46 (dk_at dksX3_needsAgain_0 17 rfl rfl)
theorem dX3_needsAgain_18 : decode cX3_needsAgain 18 = .ok (.if_icmp .ge 146, 3) := dk_162 0 146 (dk_at dksX3_needsAgain_0 18 rfl rfl)
theorem dX3_needsAgain_21 : decode cX3_needsAgain 21 = .ok (.iconst (-1), 1) := dk_2 (dk_at dksX3_needsAgain_0 21 rfl rfl)
theorem dX3_needsAgain_22 : decode cX3_needsAgain 22 = .ok (.istore 4, 2) := dk_54 4 (dk_at dksX3_needsAgain_0 22 rfl rfl)
theorem dX3_needsAgain_24 : decode cX3_needsAgain 24 = .ok (.iconst 0, 1) := dk_3 (dk_at dksX3_needsAgain_1 0 rfl rfl)
theorem dX3_needsAgain_25 : decode cX3_needsAgain 25 = .ok (.istore 5, 2) := dk_54 5 (dk_at dksX3_needsAgain_1 1 rfl rfl)
theorem dX3_needsAgain_27 : decode cX3_needsAgain 27 = .ok (.iload 5, 2) := dk_21 5 (dk_at dksX3_needsAgain_1 3 rfl rfl)
theorem dX3_needsAgain_29 : decode cX3_needsAgain 29 = .ok (.aload_n 0, 1) := dk_42 (dk_at dksX3_needsAgain_1 5 rfl rfl)
theorem dX3_needsAgain_30 : decode cX3_needsAgain 30 = .ok (.getfield 9, 3) := dk_180 0 9 (dk_at dksX3_needsAgain_1 6 rfl rfl)
theorem dX3_needsAgain_33 : decode cX3_needsAgain 33 = .ok (.iconst 2, 1) := dk_5 (dk_at dksX3_needsAgain_1 9 rfl rfl)
theorem dX3_needsAgain_34 : decode cX3_needsAgain 34 = .ok (.iaload, 1) := dk_46 (dk_at dksX3_needsAgain_1 10 rfl rfl)
theorem dX3_needsAgain_35 : decode cX3_needsAgain 35 = .ok (.if_icmp .ge 61, 3) := dk_162 0 61 (dk_at dksX3_needsAgain_1 11 rfl rfl)
theorem dX3_needsAgain_38 : decode cX3_needsAgain 38 = .ok (.iload_n 2, 1) := dk_28 (dk_at dksX3_needsAgain_1 14 rfl rfl)
theorem dX3_needsAgain_39 : decode cX3_needsAgain 39 = .ok (.iload 5, 2) := dk_21 5 (dk_at dksX3_needsAgain_1 15 rfl rfl)
theorem dX3_needsAgain_41 : decode cX3_needsAgain 41 = .ok (.ishr, 1) := dk_122 (dk_at dksX3_needsAgain_1 17 rfl rfl)
theorem dX3_needsAgain_42 : decode cX3_needsAgain 42 = .ok (.iconst 1, 1) := dk_4 (dk_at dksX3_needsAgain_1 18 rfl rfl)
theorem dX3_needsAgain_43 : decode cX3_needsAgain 43 = .ok (.iand, 1) := dk_126 (dk_at dksX3_needsAgain_1 19 rfl rfl)
theorem dX3_needsAgain_44 : decode cX3_needsAgain 44 = .ok (.ifCond .ne 29, 3) := dk_154 0 29 (dk_at dksX3_needsAgain_1 20 rfl rfl)
theorem dX3_needsAgain_47 : decode cX3_needsAgain 47 = .ok (.iload 4, 2) := dk_21 4 (dk_at dksX3_needsAgain_2 0 rfl rfl)
theorem dX3_needsAgain_49 : decode cX3_needsAgain 49 = .ok (.ifCond .lt 20, 3) := dk_155 0 20 (dk_at dksX3_needsAgain_2 2 rfl rfl)
theorem dX3_needsAgain_52 : decode cX3_needsAgain 52 = .ok (.aload_n 0, 1) := dk_42 (dk_at dksX3_needsAgain_2 5 rfl rfl)
theorem dX3_needsAgain_53 : decode cX3_needsAgain 53 = .ok (.iload 5, 2) := dk_21 5 (dk_at dksX3_needsAgain_2 6 rfl rfl)
theorem dX3_needsAgain_55 : decode cX3_needsAgain 55 = .ok (.iconst 0, 1) := dk_3 (dk_at dksX3_needsAgain_2 8 rfl rfl)
theorem dX3_needsAgain_56 : decode cX3_needsAgain 56 = .ok (.invokevirtual 161, 3) := dk_182 0 161 (dk_at dksX3_needsAgain_2 9 rfl rfl)
theorem dX3_needsAgain_59 : decode cX3_needsAgain 59 = .ok (.aload_n 0, 1) := dk_42 (dk_at dksX3_needsAgain_2 12 rfl rfl)
theorem dX3_needsAgain_60 : decode cX3_needsAgain 60 = .ok (.iload 4, 2) := dk_21 4 (dk_at dksX3_needsAgain_2 13 rfl rfl)
theorem dX3_needsAgain_62 : decode cX3_needsAgain 62 = .ok (.iconst 0, 1) := dk_3 (dk_at dksX3_needsAgain_2 15 rfl rfl)
theorem dX3_needsAgain_63 : decode cX3_needsAgain 63 = .ok (.invokevirtual 161, 3) := dk_182 0 161 (dk_at dksX3_needsAgain_2 16 rfl rfl)
theorem dX3_needsAgain_66 : decode cX3_needsAgain 66 = .ok (.if_icmp .ge 7, 3) := dk_162 0 7 (dk_at dksX3_needsAgain_2 19 rfl rfl)
theorem dX3_needsAgain_69 : decode cX3_needsAgain 69 = .ok (.iconst 1, 1) := dk_4 (dk_at dksX3_needsAgain_2 22 rfl rfl)
theorem dX3_needsAgain_70 : decode cX3_needsAgain 70 = .ok (.goto 4, 3) := dk_167 0 4 (dk_at dksX3_needsAgain_3 0 rfl rfl)
theorem dX3_needsAgain_73 : decode cX3_needsAgain 73 = .ok (.iconst 0, 1) := dk_3 (dk_at dksX3_needsAgain_3 3 rfl rfl)
theorem dX3_needsAgain_74 : decode cX3_needsAgain 74 = .ok (.istore 6, 2) := dk_54 6 (dk_at dksX3_needsAgain_3 4 rfl rfl)
theorem dX3_needsAgain_76 : decode cX3_needsAgain 76 = .ok (.iload 6, 2) := dk_21 6 (dk_at dksX3_needsAgain_3 6 rfl rfl)
theorem dX3_needsAgain_78 : decode cX3_needsAgain 78 = .ok (.ifCond .eq 8, 3) := dk_153 0 8 (dk_at dksX3_needsAgain_3 8 rfl rfl)
theorem dX3_needsAgain_81 : decode cX3_needsAgain 81 = .ok (.iload 5, 2) := dk_21 5 (dk_at dksX3_needsAgain_3 11 rfl rfl)
theorem dX3_needsAgain_83 : decode cX3_needsAgain 83 = .ok (.goto 5, 3) := dk_167 0 5 (dk_at dksX3_needsAgain_3 13 rfl rfl)
theorem dX3_needsAgain_86 : decode cX3_needsAgain 86 = .ok (.iload 4, 2) := dk_21 4 (dk_at dksX3_needsAgain_3 16 rfl rfl)
theorem dX3_needsAgain_88 : decode cX3_needsAgain 88 = .ok (.istore 4, 2) := dk_54 4 (dk_at dksX3_needsAgain_3 18 rfl rfl)
theorem dX3_needsAgain_90 : decode cX3_needsAgain 90 = .ok (.iinc 5 1, 3) := dk_132 5 1 (dk_at dksX3_needsAgain_3 20 rfl rfl)
theorem dX3_needsAgain_93 : decode cX3_needsAgain 93 = .ok (.goto (-66), 3) := dk_167 255 190 (dk_at dksX3_needsAgain_4 0 rfl rfl)
theorem dX3_needsAgain_96 : decode cX3_needsAgain 96 = .ok (.iload_n 2, 1) := dk_28 (dk_at dksX3_needsAgain_4 3 rfl rfl)
theorem dX3_needsAgain_97 : decode cX3_needsAgain 97 = .ok (.iconst 1, 1) := dk_4 (dk_at dksX3_needsAgain_4 4 rfl rfl)
theorem dX3_needsAgain_98 : decode cX3_needsAgain 98 = .ok (.iload 4, 2) := dk_21 4 (dk_at dksX3_needsAgain_4 5 rfl rfl)
theorem dX3_needsAgain_100 : decode cX3_needsAgain 100 = .ok (.ishl, 1) := dk_120 (dk_at dksX3_needsAgain_4 7 rfl rfl)
theorem dX3_needsAgain_101 : decode cX3_needsAgain 101 = .ok (.ior, 1) := dk_128 (dk_at dksX3_needsAgain_4 8 rfl rfl)
theorem dX3_needsAgain_102 : decode cX3_needsAgain 102 = .ok (.istore_n 2, 1) := dk_61 (dk_at dksX3_needsAgain_4 9 rfl rfl)
theorem dX3_needsAgain_103 : decode cX3_needsAgain 103 = .ok (.iconst 0, 1) := dk_3 (dk_at dksX3_needsAgain_4 10 rfl rfl)
theorem dX3_needsAgain_104 : decode cX3_needsAgain 104 = .ok (.istore 5, 2) := dk_54 5 (dk_at dksX3_needsAgain_4 11 rfl rfl)
theorem dX3_needsAgain_106 : decode cX3_needsAgain 106 = .ok (.iload 5, 2) := dk_21 5 (dk_at dksX3_needsAgain_4 13 rfl rfl)
theorem dX3_needsAgain_108 : decode cX3_needsAgain 108 = .ok (.iload_n 1, 1) := dk_27 (dk_at dksX3_needsAgain_4 15 rfl rfl)
theorem dX3_needsAgain_109 : decode cX3_needsAgain 109 = .ok (.if_icmp .ge 26, 3) := dk_162 0 26 (dk_at dksX3_needsAgain_4 16 rfl rfl)
theorem dX3_needsAgain_112 : decode cX3_needsAgain 112 = .ok (.aload_n 0, 1) := dk_42 (dk_at dksX3_needsAgain_4 19 rfl rfl)
theorem dX3_needsAgain_113 : decode cX3_needsAgain 113 = .ok (.getfield 26, 3) := dk_180 0 26 (dk_at dksX3_needsAgain_4 20 rfl rfl)
theorem dX3_needsAgain_116 : decode cX3_needsAgain 116 = .ok (.iload 5, 2) := dk_21 5 (dk_at dksX3_needsAgain_5 0 rfl rfl)
theorem dX3_needsAgain_118 : decode cX3_needsAgain 118 = .ok (.iaload, 1) := dk_46 (dk_at dksX3_needsAgain_5 2 rfl rfl)
theorem dX3_needsAgain_119 : decode cX3_needsAgain 119 = .ok (.aload_n 0, 1) := dk_42 (dk_at dksX3_needsAgain_5 3 rfl rfl)
theorem dX3_needsAgain_120 : decode cX3_needsAgain 120 = .ok (.iload 4, 2) := dk_21 4 (dk_at dksX3_needsAgain_5 4 rfl rfl)
theorem dX3_needsAgain_122 : decode cX3_needsAgain 122 = .ok (.iconst 0, 1) := dk_3 (dk_at dksX3_needsAgain_5 6 rfl rfl)
theorem dX3_needsAgain_123 : decode cX3_needsAgain 123 = .ok (.invokevirtual 161, 3) := dk_182 0 161 (dk_at dksX3_needsAgain_5 7 rfl rfl)
theorem dX3_needsAgain_126 : decode cX3_needsAgain 126 = .ok (.if_icmp .le 9, 3) := dk_164 0 9 (dk_at dksX3_needsAgain_5 10 rfl rfl)
theorem dX3_needsAgain_129 : decode cX3_needsAgain 129 = .ok (.iinc 5 1, 3) := dk_132 5 1 (dk_at dksX3_needsAgain_5 13 rfl rfl)
theorem dX3_needsAgain_132 : decode cX3_needsAgain 132 = .ok (.goto (-26), 3) := dk_167 255 230 (dk_at dksX3_needsAgain_5 16 rfl rfl)
theorem dX3_needsAgain_135 : decode cX3_needsAgain 135 = .ok (.aload_n 0, 1) := dk_42 (dk_at dksX3_needsAgain_5 19 rfl rfl)
theorem dX3_needsAgain_136 : decode cX3_needsAgain 136 = .ok (.getfield 26, 3) := dk_180 0 26 (dk_at dksX3_needsAgain_5 20 rfl rfl)
theorem dX3_needsAgain_139 : decode cX3_needsAgain 139 = .ok (.iload 5, 2) := dk_21 5 (dk_at dksX3_needsAgain_6 0 rfl rfl)
theorem dX3_needsAgain_141 : decode cX3_needsAgain 141 = .ok (.aload_n 0, 1) := dk_42 (dk_at dksX3_needsAgain_6 2 rfl rfl)
theorem dX3_needsAgain_142 : decode cX3_needsAgain 142 = .ok (.iload 4, 2) := dk_21 4 (dk_at dksX3_needsAgain_6 3 rfl rfl)
theorem dX3_needsAgain_144 : decode cX3_needsAgain 144 = .ok (.iconst 1, 1) := dk_4 (dk_at dksX3_needsAgain_6 5 rfl rfl)
theorem dX3_needsAgain_145 : decode cX3_needsAgain 145 = .ok (.invokevirtual 161, 3) := dk_182 0 161 (dk_at dksX3_needsAgain_6 6 rfl rfl)
theorem dX3_needsAgain_148 : decode cX3_needsAgain 148 = .ok (.iastore, 1) := dk_79 (dk_at dksX3_needsAgain_6 9 rfl rfl)
theorem dX3_needsAgain_149 : decode cX3_needsAgain 149 = .ok (.iload_n 1, 1) := dk_27 (dk_at dksX3_needsAgain_6 10 rfl rfl)
theorem dX3_needsAgain_150 : decode cX3_needsAgain 150 = .ok (.iload 5, 2) := dk_21 5 (dk_at dksX3_needsAgain_6 11 rfl rfl)
theorem dX3_needsAgain_152 : decode cX3_needsAgain 152 = .ok (.iconst 1, 1) := dk_4 (dk_at dksX3_needsAgain_6 13 rfl rfl)
theorem dX3_needsAgain_153 : decode cX3_needsAgain 153 = .ok (.iadd, 1) := dk_96 (dk_at dksX3_needsAgain_6 14 rfl rfl)
theorem dX3_needsAgain_154 : decode cX3_needsAgain 154 = .ok (.invokestatic 133, 3) := dk_184 0 133 (dk_at dksX3_needsAgain_6 15 rfl rfl)
theorem dX3_needsAgain_157 : decode cX3_needsAgain 157 = .ok (.istore_n 1, 1) := dk_60 (dk_at dksX3_needsAgain_6 18 rfl rfl)
theorem dX3_needsAgain_158 : decode cX3_needsAgain 158 = .ok (.iinc 3 1, 3) := dk_132 3 1 (dk_at dksX3_needsAgain_6 19 rfl rfl)
theorem dX3_needsAgain_161 : decode cX3_needsAgain 161 = .ok (.goto (-150), 3) := dk_167 255 106 (dk_at dksX3_needsAgain_7 0 rfl rfl)
theorem dX3_needsAgain_164 : decode cX3_needsAgain 164 = .ok (.iload_n 1, 1) := dk_27 (dk_at dksX3_needsAgain_7 3 rfl rfl)
theorem dX3_needsAgain_165 : decode cX3_needsAgain 165 = .ok (.ireturn, 1) := dk_172 (dk_at dksX3_needsAgain_7 4 rfl rfl)
abbrev cX3_allot : ByteArray := prog_16_method_57_code
def yX3_allot : MethodName := ⟨RX3, "allot", "()I"⟩
def dkwX3_allot_0 : List UInt8 := [42, 182, 0, 88, 42, 42, 182, 0, 177, 4, 182, 0, 99, 172]
abbrev dktX3_allot_0 : List UInt8 := dkwX3_allot_0 ++ []
theorem dksX3_allot_0 : cX3_allot.data.toList.drop 0 = dktX3_allot_0 := by decide +kernel
theorem dX3_allot_0 : decode cX3_allot 0 = .ok (.aload_n 0, 1) := dk_42 (dk_at dksX3_allot_0 0 rfl rfl)
theorem dX3_allot_1 : decode cX3_allot 1 = .ok (.invokevirtual 88, 3) := dk_182 0 88 (dk_at dksX3_allot_0 1 rfl rfl)
theorem dX3_allot_4 : decode cX3_allot 4 = .ok (.aload_n 0, 1) := dk_42 (dk_at dksX3_allot_0 4 rfl rfl)
theorem dX3_allot_5 : decode cX3_allot 5 = .ok (.aload_n 0, 1) := dk_42 (dk_at dksX3_allot_0 5 rfl rfl)
theorem dX3_allot_6 : decode cX3_allot 6 = .ok (.invokevirtual 177, 3) := dk_182 0 177 (dk_at dksX3_allot_0 6 rfl rfl)
theorem dX3_allot_9 : decode cX3_allot 9 = .ok (.iconst 1, 1) := dk_4 (dk_at dksX3_allot_0 9 rfl rfl)
theorem dX3_allot_10 : decode cX3_allot 10 = .ok (.invokevirtual 99, 3) := dk_182 0 99 (dk_at dksX3_allot_0 10 rfl rfl)
theorem dX3_allot_13 : decode cX3_allot 13 = .ok (.ireturn, 1) := dk_172 (dk_at dksX3_allot_0 13 rfl rfl)
abbrev cX3_allots : ByteArray := prog_16_method_56_code
def yX3_allots : MethodName := ⟨RX3, "allots", "()I"⟩
def dkwX3_allots_9 : List UInt8 := [167, 0, 4, 29, 172]
abbrev dktX3_allots_9 : List UInt8 := dkwX3_allots_9 ++ []
def dkwX3_allots_8 : List UInt8 := [132, 6, 255, 167, 255, 223, 42, 180, 0, 9, 6, 92, 46, 29, 96, 79, 21, 5, 156, 0, 8, 21, 5]
abbrev dktX3_allots_8 : List UInt8 := dkwX3_allots_8 ++ dktX3_allots_9
def dkwX3_allots_7 : List UInt8 := [28, 21, 6, 122, 4, 126, 4, 160, 0, 12, 42, 21, 6, 182, 0, 158, 167, 0, 4, 3, 96, 54, 5]
abbrev dktX3_allots_7 : List UInt8 := dkwX3_allots_7 ++ dktX3_allots_8
def dkwX3_allots_6 : List UInt8 := [42, 27, 182, 0, 171, 54, 4, 167, 255, 146, 3, 54, 5, 16, 11, 54, 6, 21, 6, 155, 0, 34, 21, 5]
abbrev dktX3_allots_6 : List UInt8 := dkwX3_allots_6 ++ dktX3_allots_7
def dkwX3_allots_5 : List UInt8 := [182, 0, 106, 54, 6, 28, 21, 6, 155, 0, 10, 4, 21, 4, 120, 167, 0, 4, 3, 128, 61, 132, 3, 1]
abbrev dktX3_allots_5 : List UInt8 := dkwX3_allots_5 ++ dktX3_allots_6
def dkwX3_allots_4 : List UInt8 := [21, 5, 42, 21, 4, 5, 182, 0, 161, 42, 21, 4, 3, 182, 0, 161, 42, 21, 4, 4, 182, 0, 161]
abbrev dktX3_allots_4 : List UInt8 := dkwX3_allots_4 ++ dktX3_allots_5
def dkwX3_allots_3 : List UInt8 := [4, 21, 4, 120, 128, 60, 21, 5, 155, 0, 62, 42, 180, 0, 9, 4, 46, 16, 30, 162, 0, 51, 42]
abbrev dktX3_allots_3 : List UInt8 := dkwX3_allots_3 ++ dktX3_allots_4
def dkwX3_allots_2 : List UInt8 := [5, 182, 0, 161, 42, 21, 4, 3, 182, 0, 161, 42, 21, 4, 4, 182, 0, 161, 182, 0, 174, 54, 5, 27]
abbrev dktX3_allots_2 : List UInt8 := dkwX3_allots_2 ++ dktX3_allots_3
def dkwX3_allots_1 : List UInt8 := [3, 172, 3, 60, 3, 61, 3, 62, 42, 3, 182, 0, 171, 54, 4, 21, 4, 155, 0, 111, 42, 42, 21, 4]
abbrev dktX3_allots_1 : List UInt8 := dkwX3_allots_1 ++ dktX3_allots_2
def dkwX3_allots_0 : List UInt8 := [42, 42, 180, 0, 9, 5, 46, 154, 0, 7, 4, 167, 0, 4, 3, 16, 9, 3, 182, 0, 95, 153, 0, 5]
abbrev dktX3_allots_0 : List UInt8 := dkwX3_allots_0 ++ dktX3_allots_1
theorem dksX3_allots_0 : cX3_allots.data.toList.drop 0 = dktX3_allots_0 := by decide +kernel
theorem dksX3_allots_1 : cX3_allots.data.toList.drop 24 = dktX3_allots_1 := dk_seg dksX3_allots_0 24 rfl rfl
theorem dksX3_allots_2 : cX3_allots.data.toList.drop 48 = dktX3_allots_2 := dk_seg dksX3_allots_1 24 rfl rfl
theorem dksX3_allots_3 : cX3_allots.data.toList.drop 72 = dktX3_allots_3 := dk_seg dksX3_allots_2 24 rfl rfl
theorem dksX3_allots_4 : cX3_allots.data.toList.drop 95 = dktX3_allots_4 := dk_seg dksX3_allots_3 23 rfl rfl
theorem dksX3_allots_5 : cX3_allots.data.toList.drop 118 = dktX3_allots_5 := dk_seg dksX3_allots_4 23 rfl rfl
theorem dksX3_allots_6 : cX3_allots.data.toList.drop 142 = dktX3_allots_6 := dk_seg dksX3_allots_5 24 rfl rfl
theorem dksX3_allots_7 : cX3_allots.data.toList.drop 166 = dktX3_allots_7 := dk_seg dksX3_allots_6 24 rfl rfl
theorem dksX3_allots_8 : cX3_allots.data.toList.drop 189 = dktX3_allots_8 := dk_seg dksX3_allots_7 23 rfl rfl
theorem dksX3_allots_9 : cX3_allots.data.toList.drop 212 = dktX3_allots_9 := dk_seg dksX3_allots_8 23 rfl rfl
theorem dX3_allots_0 : decode cX3_allots 0 = .ok (.aload_n 0, 1) := dk_42 (dk_at dksX3_allots_0 0 rfl rfl)
theorem dX3_allots_1 : decode cX3_allots 1 = .ok (.aload_n 0, 1) := dk_42 (dk_at dksX3_allots_0 1 rfl rfl)
theorem dX3_allots_2 : decode cX3_allots 2 = .ok (.getfield 9, 3) := dk_180 0 9 (dk_at dksX3_allots_0 2 rfl rfl)
theorem dX3_allots_5 : decode cX3_allots 5 = .ok (.iconst 2, 1) := dk_5 (dk_at dksX3_allots_0 5 rfl rfl)
theorem dX3_allots_6 : decode cX3_allots 6 = .ok (.iaload, 1) := dk_46 (dk_at dksX3_allots_0 6 rfl rfl)
theorem dX3_allots_7 : decode cX3_allots 7 = .ok (.ifCond .ne 7, 3) := dk_154 0 7 (dk_at dksX3_allots_0 7 rfl rfl)
theorem dX3_allots_10 : decode cX3_allots 10 = .ok (.iconst 1, 1) := dk_4 (dk_at dksX3_allots_0 10 rfl rfl)
theorem dX3_allots_11 : decode cX3_allots 11 = .ok (.goto 4, 3) := dk_167 0 4 (dk_at dksX3_allots_0 11 rfl rfl)
theorem dX3_allots_14 : decode cX3_allots 14 = .ok (.iconst 0, 1) := dk_3 (dk_at dksX3_allots_0 14 rfl rfl)
theorem dX3_allots_15 : decode cX3_allots 15 = .ok (.bipush 9, 2) := dk_16 9 (dk_at dksX3_allots_0 15 rfl rfl)
theorem dX3_allots_17 : decode cX3_allots 17 = .ok (.iconst 0, 1) := dk_3 (dk_at dksX3_allots_0 17 rfl rfl)
theorem dX3_allots_18 : decode cX3_allots 18 = .ok (.invokevirtual 95, 3) := dk_182 0 95 (dk_at dksX3_allots_0 18 rfl rfl)
theorem dX3_allots_21 : decode cX3_allots 21 = .ok (.ifCond .eq 5, 3) := dk_153 0 5 (dk_at dksX3_allots_0 21 rfl rfl)
theorem dX3_allots_24 : decode cX3_allots 24 = .ok (.iconst 0, 1) := dk_3 (dk_at dksX3_allots_1 0 rfl rfl)
theorem dX3_allots_25 : decode cX3_allots 25 = .ok (.ireturn, 1) := dk_172 (dk_at dksX3_allots_1 1 rfl rfl)
theorem dX3_allots_26 : decode cX3_allots 26 = .ok (.iconst 0, 1) := dk_3 (dk_at dksX3_allots_1 2 rfl rfl)
theorem dX3_allots_27 : decode cX3_allots 27 = .ok (.istore_n 1, 1) := dk_60 (dk_at dksX3_allots_1 3 rfl rfl)
theorem dX3_allots_28 : decode cX3_allots 28 = .ok (.iconst 0, 1) := dk_3 (dk_at dksX3_allots_1 4 rfl rfl)
theorem dX3_allots_29 : decode cX3_allots 29 = .ok (.istore_n 2, 1) := dk_61 (dk_at dksX3_allots_1 5 rfl rfl)
theorem dX3_allots_30 : decode cX3_allots 30 = .ok (.iconst 0, 1) := dk_3 (dk_at dksX3_allots_1 6 rfl rfl)
theorem dX3_allots_31 : decode cX3_allots 31 = .ok (.istore_n 3, 1) := dk_62 (dk_at dksX3_allots_1 7 rfl rfl)
theorem dX3_allots_32 : decode cX3_allots 32 = .ok (.aload_n 0, 1) := dk_42 (dk_at dksX3_allots_1 8 rfl rfl)
theorem dX3_allots_33 : decode cX3_allots 33 = .ok (.iconst 0, 1) := dk_3 (dk_at dksX3_allots_1 9 rfl rfl)
theorem dX3_allots_34 : decode cX3_allots 34 = .ok (.invokevirtual 171, 3) := dk_182 0 171 (dk_at dksX3_allots_1 10 rfl rfl)
theorem dX3_allots_37 : decode cX3_allots 37 = .ok (.istore 4, 2) := dk_54 4 (dk_at dksX3_allots_1 13 rfl rfl)
theorem dX3_allots_39 : decode cX3_allots 39 = .ok (.iload 4, 2) := dk_21 4 (dk_at dksX3_allots_1 15 rfl rfl)
theorem dX3_allots_41 : decode cX3_allots 41 = .ok (.ifCond .lt 111, 3) := dk_155 0 111 (dk_at dksX3_allots_1 17 rfl rfl)
theorem dX3_allots_44 : decode cX3_allots 44 = .ok (.aload_n 0, 1) := dk_42 (dk_at dksX3_allots_1 20 rfl rfl)
theorem dX3_allots_45 : decode cX3_allots 45 = .ok (.aload_n 0, 1) := dk_42 (dk_at dksX3_allots_1 21 rfl rfl)
theorem dX3_allots_46 : decode cX3_allots 46 = .ok (.iload 4, 2) := dk_21 4 (dk_at dksX3_allots_1 22 rfl rfl)
theorem dX3_allots_48 : decode cX3_allots 48 = .ok (.iconst 2, 1) := dk_5 (dk_at dksX3_allots_2 0 rfl rfl)
theorem dX3_allots_49 : decode cX3_allots 49 = .ok (.invokevirtual 161, 3) := dk_182 0 161 (dk_at dksX3_allots_2 1 rfl rfl)
theorem dX3_allots_52 : decode cX3_allots 52 = .ok (.aload_n 0, 1) := dk_42 (dk_at dksX3_allots_2 4 rfl rfl)
theorem dX3_allots_53 : decode cX3_allots 53 = .ok (.iload 4, 2) := dk_21 4 (dk_at dksX3_allots_2 5 rfl rfl)
theorem dX3_allots_55 : decode cX3_allots 55 = .ok (.iconst 0, 1) := dk_3 (dk_at dksX3_allots_2 7 rfl rfl)
theorem dX3_allots_56 : decode cX3_allots 56 = .ok (.invokevirtual 161, 3) := dk_182 0 161 (dk_at dksX3_allots_2 8 rfl rfl)
theorem dX3_allots_59 : decode cX3_allots 59 = .ok (.aload_n 0, 1) := dk_42 (dk_at dksX3_allots_2 11 rfl rfl)
theorem dX3_allots_60 : decode cX3_allots 60 = .ok (.iload 4, 2) := dk_21 4 (dk_at dksX3_allots_2 12 rfl rfl)
theorem dX3_allots_62 : decode cX3_allots 62 = .ok (.iconst 1, 1) := dk_4 (dk_at dksX3_allots_2 14 rfl rfl)
theorem dX3_allots_63 : decode cX3_allots 63 = .ok (.invokevirtual 161, 3) := dk_182 0 161 (dk_at dksX3_allots_2 15 rfl rfl)
theorem dX3_allots_66 : decode cX3_allots 66 = .ok (.invokevirtual 174, 3) := dk_182 0 174 (dk_at dksX3_allots_2 18 rfl rfl)
theorem dX3_allots_69 : decode cX3_allots 69 = .ok (.istore 5, 2) := dk_54 5 (dk_at dksX3_allots_2 21 rfl rfl)
theorem dX3_allots_71 : decode cX3_allots 71 = .ok (.iload_n 1, 1) := dk_27 (dk_at dksX3_allots_2 23 rfl rfl)
theorem dX3_allots_72 : decode cX3_allots 72 = .ok (.iconst 1, 1) := dk_4 (dk_at dksX3_allots_3 0 rfl rfl)
theorem dX3_allots_73 : decode cX3_allots 73 = .ok (.iload 4, 2) := dk_21 4 (dk_at dksX3_allots_3 1 rfl rfl)
theorem dX3_allots_75 : decode cX3_allots 75 = .ok (.ishl, 1) := dk_120 (dk_at dksX3_allots_3 3 rfl rfl)
theorem dX3_allots_76 : decode cX3_allots 76 = .ok (.ior, 1) := dk_128 (dk_at dksX3_allots_3 4 rfl rfl)
theorem dX3_allots_77 : decode cX3_allots 77 = .ok (.istore_n 1, 1) := dk_60 (dk_at dksX3_allots_3 5 rfl rfl)
theorem dX3_allots_78 : decode cX3_allots 78 = .ok (.iload 5, 2) := dk_21 5 (dk_at dksX3_allots_3 6 rfl rfl)
theorem dX3_allots_80 : decode cX3_allots 80 = .ok (.ifCond .lt 62, 3) := dk_155 0 62 (dk_at dksX3_allots_3 8 rfl rfl)
theorem dX3_allots_83 : decode cX3_allots 83 = .ok (.aload_n 0, 1) := dk_42 (dk_at dksX3_allots_3 11 rfl rfl)
theorem dX3_allots_84 : decode cX3_allots 84 = .ok (.getfield 9, 3) := dk_180 0 9 (dk_at dksX3_allots_3 12 rfl rfl)
theorem dX3_allots_87 : decode cX3_allots 87 = .ok (.iconst 1, 1) := dk_4 (dk_at dksX3_allots_3 15 rfl rfl)
theorem dX3_allots_88 : decode cX3_allots 88 = .ok (.iaload, 1) := dk_46 (dk_at dksX3_allots_3 16 rfl rfl)
theorem dX3_allots_89 : decode cX3_allots 89 = .ok (.bipush 30, 2) := dk_16 30 (dk_at dksX3_allots_3 17 rfl rfl)
theorem dX3_allots_91 : decode cX3_allots 91 = .ok (.if_icmp .ge 51, 3) := dk_162 0 51 (dk_at dksX3_allots_3 19 rfl rfl)
theorem dX3_allots_94 : decode cX3_allots 94 = .ok (.aload_n 0, 1) := dk_42 (dk_at dksX3_allots_3 22 rfl rfl)
theorem dX3_allots_95 : decode cX3_allots 95 = .ok (.iload 5, 2) := dk_21 5 (dk_at dksX3_allots_4 0 rfl rfl)
theorem dX3_allots_97 : decode cX3_allots 97 = .ok (.aload_n 0, 1) := dk_42 (dk_at dksX3_allots_4 2 rfl rfl)
theorem dX3_allots_98 : decode cX3_allots 98 = .ok (.iload 4, 2) := dk_21 4 (dk_at dksX3_allots_4 3 rfl rfl)
theorem dX3_allots_100 : decode cX3_allots 100 = .ok (.iconst 2, 1) := dk_5 (dk_at dksX3_allots_4 5 rfl rfl)
theorem dX3_allots_101 : decode cX3_allots 101 = .ok (.invokevirtual 161, 3) := dk_182 0 161 (dk_at dksX3_allots_4 6 rfl rfl)
theorem dX3_allots_104 : decode cX3_allots 104 = .ok (.aload_n 0, 1) := dk_42 (dk_at dksX3_allots_4 9 rfl rfl)
theorem dX3_allots_105 : decode cX3_allots 105 = .ok (.iload 4, 2) := dk_21 4 (dk_at dksX3_allots_4 10 rfl rfl)
theorem dX3_allots_107 : decode cX3_allots 107 = .ok (.iconst 0, 1) := dk_3 (dk_at dksX3_allots_4 12 rfl rfl)
theorem dX3_allots_108 : decode cX3_allots 108 = .ok (.invokevirtual 161, 3) := dk_182 0 161 (dk_at dksX3_allots_4 13 rfl rfl)
theorem dX3_allots_111 : decode cX3_allots 111 = .ok (.aload_n 0, 1) := dk_42 (dk_at dksX3_allots_4 16 rfl rfl)
theorem dX3_allots_112 : decode cX3_allots 112 = .ok (.iload 4, 2) := dk_21 4 (dk_at dksX3_allots_4 17 rfl rfl)
theorem dX3_allots_114 : decode cX3_allots 114 = .ok (.iconst 1, 1) := dk_4 (dk_at dksX3_allots_4 19 rfl rfl)
theorem dX3_allots_115 : decode cX3_allots 115 = .ok (.invokevirtual 161, 3) := dk_182 0 161 (dk_at dksX3_allots_4 20 rfl rfl)
theorem dX3_allots_118 : decode cX3_allots 118 = .ok (.invokevirtual 106, 3) := dk_182 0 106 (dk_at dksX3_allots_5 0 rfl rfl)
theorem dX3_allots_121 : decode cX3_allots 121 = .ok (.istore 6, 2) := dk_54 6 (dk_at dksX3_allots_5 3 rfl rfl)
theorem dX3_allots_123 : decode cX3_allots 123 = .ok (.iload_n 2, 1) := dk_28 (dk_at dksX3_allots_5 5 rfl rfl)
theorem dX3_allots_124 : decode cX3_allots 124 = .ok (.iload 6, 2) := dk_21 6 (dk_at dksX3_allots_5 6 rfl rfl)
theorem dX3_allots_126 : decode cX3_allots 126 = .ok (.ifCond .lt 10, 3) := dk_155 0 10 (dk_at dksX3_allots_5 8 rfl rfl)
theorem dX3_allots_129 : decode cX3_allots 129 = .ok (.iconst 1, 1) := dk_4 (dk_at dksX3_allots_5 11 rfl rfl)
theorem dX3_allots_130 : decode cX3_allots 130 = .ok (.iload 4, 2) := dk_21 4 (dk_at dksX3_allots_5 12 rfl rfl)
theorem dX3_allots_132 : decode cX3_allots 132 = .ok (.ishl, 1) := dk_120 (dk_at dksX3_allots_5 14 rfl rfl)
theorem dX3_allots_133 : decode cX3_allots 133 = .ok (.goto 4, 3) := dk_167 0 4 (dk_at dksX3_allots_5 15 rfl rfl)
theorem dX3_allots_136 : decode cX3_allots 136 = .ok (.iconst 0, 1) := dk_3 (dk_at dksX3_allots_5 18 rfl rfl)
theorem dX3_allots_137 : decode cX3_allots 137 = .ok (.ior, 1) := dk_128 (dk_at dksX3_allots_5 19 rfl rfl)
theorem dX3_allots_138 : decode cX3_allots 138 = .ok (.istore_n 2, 1) := dk_61 (dk_at dksX3_allots_5 20 rfl rfl)
theorem dX3_allots_139 : decode cX3_allots 139 = .ok (.iinc 3 1, 3) := dk_132 3 1 (dk_at dksX3_allots_5 21 rfl rfl)
theorem dX3_allots_142 : decode cX3_allots 142 = .ok (.aload_n 0, 1) := dk_42 (dk_at dksX3_allots_6 0 rfl rfl)
theorem dX3_allots_143 : decode cX3_allots 143 = .ok (.iload_n 1, 1) := dk_27 (dk_at dksX3_allots_6 1 rfl rfl)
theorem dX3_allots_144 : decode cX3_allots 144 = .ok (.invokevirtual 171, 3) := dk_182 0 171 (dk_at dksX3_allots_6 2 rfl rfl)
theorem dX3_allots_147 : decode cX3_allots 147 = .ok (.istore 4, 2) := dk_54 4 (dk_at dksX3_allots_6 5 rfl rfl)
theorem dX3_allots_149 : decode cX3_allots 149 = .ok (.goto (-110), 3) := dk_167 255 146 (dk_at dksX3_allots_6 7 rfl rfl)
theorem dX3_allots_152 : decode cX3_allots 152 = .ok (.iconst 0, 1) := dk_3 (dk_at dksX3_allots_6 10 rfl rfl)
theorem dX3_allots_153 : decode cX3_allots 153 = .ok (.istore 5, 2) := dk_54 5 (dk_at dksX3_allots_6 11 rfl rfl)
theorem dX3_allots_155 : decode cX3_allots 155 = .ok (.bipush 11, 2) := dk_16 11 (dk_at dksX3_allots_6 13 rfl rfl)
theorem dX3_allots_157 : decode cX3_allots 157 = .ok (.istore 6, 2) := dk_54 6 (dk_at dksX3_allots_6 15 rfl rfl)
theorem dX3_allots_159 : decode cX3_allots 159 = .ok (.iload 6, 2) := dk_21 6 (dk_at dksX3_allots_6 17 rfl rfl)
theorem dX3_allots_161 : decode cX3_allots 161 = .ok (.ifCond .lt 34, 3) := dk_155 0 34 (dk_at dksX3_allots_6 19 rfl rfl)
theorem dX3_allots_164 : decode cX3_allots 164 = .ok (.iload 5, 2) := dk_21 5 (dk_at dksX3_allots_6 22 rfl rfl)
theorem dX3_allots_166 : decode cX3_allots 166 = .ok (.iload_n 2, 1) := dk_28 (dk_at dksX3_allots_7 0 rfl rfl)
theorem dX3_allots_167 : decode cX3_allots 167 = .ok (.iload 6, 2) := dk_21 6 (dk_at dksX3_allots_7 1 rfl rfl)
theorem dX3_allots_169 : decode cX3_allots 169 = .ok (.ishr, 1) := dk_122 (dk_at dksX3_allots_7 3 rfl rfl)
theorem dX3_allots_170 : decode cX3_allots 170 = .ok (.iconst 1, 1) := dk_4 (dk_at dksX3_allots_7 4 rfl rfl)
theorem dX3_allots_171 : decode cX3_allots 171 = .ok (.iand, 1) := dk_126 (dk_at dksX3_allots_7 5 rfl rfl)
theorem dX3_allots_172 : decode cX3_allots 172 = .ok (.iconst 1, 1) := dk_4 (dk_at dksX3_allots_7 6 rfl rfl)
theorem dX3_allots_173 : decode cX3_allots 173 = .ok (.if_icmp .ne 12, 3) := dk_160 0 12 (dk_at dksX3_allots_7 7 rfl rfl)
theorem dX3_allots_176 : decode cX3_allots 176 = .ok (.aload_n 0, 1) := dk_42 (dk_at dksX3_allots_7 10 rfl rfl)
theorem dX3_allots_177 : decode cX3_allots 177 = .ok (.iload 6, 2) := dk_21 6 (dk_at dksX3_allots_7 11 rfl rfl)
theorem dX3_allots_179 : decode cX3_allots 179 = .ok (.invokevirtual 158, 3) := dk_182 0 158 (dk_at dksX3_allots_7 13 rfl rfl)
theorem dX3_allots_182 : decode cX3_allots 182 = .ok (.goto 4, 3) := dk_167 0 4 (dk_at dksX3_allots_7 16 rfl rfl)
theorem dX3_allots_185 : decode cX3_allots 185 = .ok (.iconst 0, 1) := dk_3 (dk_at dksX3_allots_7 19 rfl rfl)
theorem dX3_allots_186 : decode cX3_allots 186 = .ok (.iadd, 1) := dk_96 (dk_at dksX3_allots_7 20 rfl rfl)
theorem dX3_allots_187 : decode cX3_allots 187 = .ok (.istore 5, 2) := dk_54 5 (dk_at dksX3_allots_7 21 rfl rfl)
theorem dX3_allots_189 : decode cX3_allots 189 = .ok (.iinc 6 (-1), 3) := dk_132 6 255 (dk_at dksX3_allots_8 0 rfl rfl)
theorem dX3_allots_192 : decode cX3_allots 192 = .ok (.goto (-33), 3) := dk_167 255 223 (dk_at dksX3_allots_8 3 rfl rfl)
theorem dX3_allots_195 : decode cX3_allots 195 = .ok (.aload_n 0, 1) := dk_42 (dk_at dksX3_allots_8 6 rfl rfl)
theorem dX3_allots_196 : decode cX3_allots 196 = .ok (.getfield 9, 3) := dk_180 0 9 (dk_at dksX3_allots_8 7 rfl rfl)
theorem dX3_allots_199 : decode cX3_allots 199 = .ok (.iconst 3, 1) := dk_6 (dk_at dksX3_allots_8 10 rfl rfl)
theorem dX3_allots_200 : decode cX3_allots 200 = .ok (.dup2, 1) := dk_92 (dk_at dksX3_allots_8 11 rfl rfl)
theorem dX3_allots_201 : decode cX3_allots 201 = .ok (.iaload, 1) := dk_46 (dk_at dksX3_allots_8 12 rfl rfl)
theorem dX3_allots_202 : decode cX3_allots 202 = .ok (.iload_n 3, 1) := dk_29 (dk_at dksX3_allots_8 13 rfl rfl)
theorem dX3_allots_203 : decode cX3_allots 203 = .ok (.iadd, 1) := dk_96 (dk_at dksX3_allots_8 14 rfl rfl)
theorem dX3_allots_204 : decode cX3_allots 204 = .ok (.iastore, 1) := dk_79 (dk_at dksX3_allots_8 15 rfl rfl)
theorem dX3_allots_205 : decode cX3_allots 205 = .ok (.iload 5, 2) := dk_21 5 (dk_at dksX3_allots_8 16 rfl rfl)
theorem dX3_allots_207 : decode cX3_allots 207 = .ok (.ifCond .ge 8, 3) := dk_156 0 8 (dk_at dksX3_allots_8 18 rfl rfl)
theorem dX3_allots_210 : decode cX3_allots 210 = .ok (.iload 5, 2) := dk_21 5 (dk_at dksX3_allots_8 21 rfl rfl)
theorem dX3_allots_212 : decode cX3_allots 212 = .ok (.goto 4, 3) := dk_167 0 4 (dk_at dksX3_allots_9 0 rfl rfl)
theorem dX3_allots_215 : decode cX3_allots 215 = .ok (.iload_n 3, 1) := dk_29 (dk_at dksX3_allots_9 3 rfl rfl)
theorem dX3_allots_216 : decode cX3_allots 216 = .ok (.ireturn, 1) := dk_172 (dk_at dksX3_allots_9 4 rfl rfl)
abbrev cX3_nextWish : ByteArray := prog_16_method_55_code
def yX3_nextWish : MethodName := ⟨RX3, "nextWish", "(I)I"⟩
def dkwX3_nextWish_2 : List UInt8 := [28, 172]
abbrev dktX3_nextWish_2 : List UInt8 := dkwX3_nextWish_2 ++ []
def dkwX3_nextWish_1 : List UInt8 := [155, 0, 12, 42, 29, 28, 182, 0, 167, 153, 0, 7, 29, 167, 0, 4, 28, 61, 132, 3, 1, 167, 255, 216]
abbrev dktX3_nextWish_1 : List UInt8 := dkwX3_nextWish_1 ++ dktX3_nextWish_2
def dkwX3_nextWish_0 : List UInt8 := [2, 61, 3, 62, 29, 42, 180, 0, 9, 5, 46, 162, 0, 36, 27, 29, 122, 4, 126, 154, 0, 20, 28]
abbrev dktX3_nextWish_0 : List UInt8 := dkwX3_nextWish_0 ++ dktX3_nextWish_1
theorem dksX3_nextWish_0 : cX3_nextWish.data.toList.drop 0 = dktX3_nextWish_0 := by decide +kernel
theorem dksX3_nextWish_1 : cX3_nextWish.data.toList.drop 23 = dktX3_nextWish_1 := dk_seg dksX3_nextWish_0 23 rfl rfl
theorem dksX3_nextWish_2 : cX3_nextWish.data.toList.drop 47 = dktX3_nextWish_2 := dk_seg dksX3_nextWish_1 24 rfl rfl
theorem dX3_nextWish_0 : decode cX3_nextWish 0 = .ok (.iconst (-1), 1) := dk_2 (dk_at dksX3_nextWish_0 0 rfl rfl)
theorem dX3_nextWish_1 : decode cX3_nextWish 1 = .ok (.istore_n 2, 1) := dk_61 (dk_at dksX3_nextWish_0 1 rfl rfl)
theorem dX3_nextWish_2 : decode cX3_nextWish 2 = .ok (.iconst 0, 1) := dk_3 (dk_at dksX3_nextWish_0 2 rfl rfl)
theorem dX3_nextWish_3 : decode cX3_nextWish 3 = .ok (.istore_n 3, 1) := dk_62 (dk_at dksX3_nextWish_0 3 rfl rfl)
theorem dX3_nextWish_4 : decode cX3_nextWish 4 = .ok (.iload_n 3, 1) := dk_29 (dk_at dksX3_nextWish_0 4 rfl rfl)
theorem dX3_nextWish_5 : decode cX3_nextWish 5 = .ok (.aload_n 0, 1) := dk_42 (dk_at dksX3_nextWish_0 5 rfl rfl)
theorem dX3_nextWish_6 : decode cX3_nextWish 6 = .ok (.getfield 9, 3) := dk_180 0 9 (dk_at dksX3_nextWish_0 6 rfl rfl)
theorem dX3_nextWish_9 : decode cX3_nextWish 9 = .ok (.iconst 2, 1) := dk_5 (dk_at dksX3_nextWish_0 9 rfl rfl)
theorem dX3_nextWish_10 : decode cX3_nextWish 10 = .ok (.iaload, 1) := dk_46 (dk_at dksX3_nextWish_0 10 rfl rfl)
theorem dX3_nextWish_11 : decode cX3_nextWish 11 = .ok (.if_icmp .ge 36, 3) := dk_162 0 36 (dk_at dksX3_nextWish_0 11 rfl rfl)
theorem dX3_nextWish_14 : decode cX3_nextWish 14 = .ok (.iload_n 1, 1) := dk_27 (dk_at dksX3_nextWish_0 14 rfl rfl)
theorem dX3_nextWish_15 : decode cX3_nextWish 15 = .ok (.iload_n 3, 1) := dk_29 (dk_at dksX3_nextWish_0 15 rfl rfl)
theorem dX3_nextWish_16 : decode cX3_nextWish 16 = .ok (.ishr, 1) := dk_122 (dk_at dksX3_nextWish_0 16 rfl rfl)
theorem dX3_nextWish_17 : decode cX3_nextWish 17 = .ok (.iconst 1, 1) := dk_4 (dk_at dksX3_nextWish_0 17 rfl rfl)
theorem dX3_nextWish_18 : decode cX3_nextWish 18 = .ok (.iand, 1) := dk_126 (dk_at dksX3_nextWish_0 18 rfl rfl)
theorem dX3_nextWish_19 : decode cX3_nextWish 19 = .ok (.ifCond .ne 20, 3) := dk_154 0 20 (dk_at dksX3_nextWish_0 19 rfl rfl)
theorem dX3_nextWish_22 : decode cX3_nextWish 22 = .ok (.iload_n 2, 1) := dk_28 (dk_at dksX3_nextWish_0 22 rfl rfl)
theorem dX3_nextWish_23 : decode cX3_nextWish 23 = .ok (.ifCond .lt 12, 3) := dk_155 0 12 (dk_at dksX3_nextWish_1 0 rfl rfl)
theorem dX3_nextWish_26 : decode cX3_nextWish 26 = .ok (.aload_n 0, 1) := dk_42 (dk_at dksX3_nextWish_1 3 rfl rfl)
theorem dX3_nextWish_27 : decode cX3_nextWish 27 = .ok (.iload_n 3, 1) := dk_29 (dk_at dksX3_nextWish_1 4 rfl rfl)
theorem dX3_nextWish_28 : decode cX3_nextWish 28 = .ok (.iload_n 2, 1) := dk_28 (dk_at dksX3_nextWish_1 5 rfl rfl)
theorem dX3_nextWish_29 : decode cX3_nextWish 29 = .ok (.invokevirtual 167, 3) := dk_182 0 167 (dk_at dksX3_nextWish_1 6 rfl rfl)
theorem dX3_nextWish_32 : decode cX3_nextWish 32 = .ok (.ifCond .eq 7, 3) := dk_153 0 7 (dk_at dksX3_nextWish_1 9 rfl rfl)
theorem dX3_nextWish_35 : decode cX3_nextWish 35 = .ok (.iload_n 3, 1) := dk_29 (dk_at dksX3_nextWish_1 12 rfl rfl)
theorem dX3_nextWish_36 : decode cX3_nextWish 36 = .ok (.goto 4, 3) := dk_167 0 4 (dk_at dksX3_nextWish_1 13 rfl rfl)
theorem dX3_nextWish_39 : decode cX3_nextWish 39 = .ok (.iload_n 2, 1) := dk_28 (dk_at dksX3_nextWish_1 16 rfl rfl)
theorem dX3_nextWish_40 : decode cX3_nextWish 40 = .ok (.istore_n 2, 1) := dk_61 (dk_at dksX3_nextWish_1 17 rfl rfl)
theorem dX3_nextWish_41 : decode cX3_nextWish 41 = .ok (.iinc 3 1, 3) := dk_132 3 1 (dk_at dksX3_nextWish_1 18 rfl rfl)
theorem dX3_nextWish_44 : decode cX3_nextWish 44 = .ok (.goto (-40), 3) := dk_167 255 216 (dk_at dksX3_nextWish_1 21 rfl rfl)
theorem dX3_nextWish_47 : decode cX3_nextWish 47 = .ok (.iload_n 2, 1) := dk_28 (dk_at dksX3_nextWish_2 0 rfl rfl)
theorem dX3_nextWish_48 : decode cX3_nextWish 48 = .ok (.ireturn, 1) := dk_172 (dk_at dksX3_nextWish_2 1 rfl rfl)
abbrev cX3_isWishAhead : ByteArray := prog_16_method_54_code
def yX3_isWishAhead : MethodName := ⟨RX3, "isWishAhead", "(II)Z"⟩
def dkwX3_isWishAhead_3 : List UInt8 := [167, 0, 4, 3, 172]
abbrev dktX3_isWishAhead_3 : List UInt8 := dkwX3_isWishAhead_3 ++ []
def dkwX3_isWishAhead_2 : List UInt8 := [153, 0, 16, 21, 4, 156, 0, 7, 4, 167, 0, 17, 3, 167, 0, 13, 27, 28, 162, 0, 7, 4]
abbrev dktX3_isWishAhead_2 : List UInt8 := dkwX3_isWishAhead_2 ++ dktX3_isWishAhead_3
def dkwX3_isWishAhead_1 : List UInt8 := [167, 0, 4, 3, 172, 42, 27, 3, 182, 0, 161, 42, 28, 3, 182, 0, 161, 100, 54, 4, 21, 4]
abbrev dktX3_isWishAhead_1 : List UInt8 := dkwX3_isWishAhead_1 ++ dktX3_isWishAhead_2
def dkwX3_isWishAhead_0 : List UInt8 := [42, 27, 4, 182, 0, 161, 42, 28, 4, 182, 0, 161, 100, 62, 29, 153, 0, 13, 29, 156, 0, 7, 4]
abbrev dktX3_isWishAhead_0 : List UInt8 := dkwX3_isWishAhead_0 ++ dktX3_isWishAhead_1
theorem dksX3_isWishAhead_0 : cX3_isWishAhead.data.toList.drop 0 = dktX3_isWishAhead_0 := by decide +kernel
theorem dksX3_isWishAhead_1 : cX3_isWishAhead.data.toList.drop 23 = dktX3_isWishAhead_1 := dk_seg dksX3_isWishAhead_0 23 rfl rfl
theorem dksX3_isWishAhead_2 : cX3_isWishAhead.data.toList.drop 45 = dktX3_isWishAhead_2 := dk_seg dksX3_isWishAhead_1 22 rfl rfl
theorem dksX3_isWishAhead_3 : cX3_isWishAhead.data.toList.drop 67 = dktX3_isWishAhead_3 := dk_seg dksX3_isWishAhead_2 22 rfl rfl
theorem dX3_isWishAhead_0 : decode cX3_isWishAhead 0 = .ok (.aload_n 0, 1) := dk_42 (dk_at dksX3_isWishAhead_0 0 rfl rfl)
theorem dX3_isWishAhead_1 : decode cX3_isWishAhead 1 = .ok (.iload_n 1, 1) := dk_27 (dk_at dksX3_isWishAhead_0 1 rfl rfl)
theorem dX3_isWishAhead_2 : decode cX3_isWishAhead 2 = .ok (.iconst 1, 1) := dk_4 (dk_at dksX3_isWishAhead_0 2 rfl rfl)
theorem dX3_isWishAhead_3 : decode cX3_isWishAhead 3 = .ok (.invokevirtual 161, 3) := dk_182 0 161 (dk_at dksX3_isWishAhead_0 3 rfl rfl)
theorem dX3_isWishAhead_6 : decode cX3_isWishAhead 6 = .ok (.aload_n 0, 1) := dk_42 (dk_at dksX3_isWishAhead_0 6 rfl rfl)
theorem dX3_isWishAhead_7 : decode cX3_isWishAhead 7 = .ok (.iload_n 2, 1) := dk_28 (dk_at dksX3_isWishAhead_0 7 rfl rfl)
theorem dX3_isWishAhead_8 : decode cX3_isWishAhead 8 = .ok (.iconst 1, 1) := dk_4 (dk_at dksX3_isWishAhead_0 8 rfl rfl)
theorem dX3_isWishAhead_9 : decode cX3_isWishAhead 9 = .ok (.invokevirtual 161, 3) := dk_182 0 161 (dk_at dksX3_isWishAhead_0 9 rfl rfl)
theorem dX3_isWishAhead_12 : decode cX3_isWishAhead 12 = .ok (.isub, 1) := dk_100 (dk_at dksX3_isWishAhead_0 12 rfl rfl)
theorem dX3_isWishAhead_13 : decode cX3_isWishAhead 13 = .ok (.istore_n 3, 1) := dk_62 (dk_at dksX3_isWishAhead_0 13 rfl rfl)
theorem dX3_isWishAhead_14 : decode cX3_isWishAhead 14 = .ok (.iload_n 3, 1) := dk_29 (dk_at dksX3_isWishAhead_0 14 rfl rfl)
theorem dX3_isWishAhead_15 : decode cX3_isWishAhead 15 = .ok (.ifCond .eq 13, 3) := dk_153 0 13 (dk_at dksX3_isWishAhead_0 15 rfl rfl)
theorem dX3_isWishAhead_18 : decode cX3_isWishAhead 18 = .ok (.iload_n 3, 1) := dk_29 (dk_at dksX3_isWishAhead_0 18 rfl rfl)
theorem dX3_isWishAhead_19 : decode cX3_isWishAhead 19 = .ok (.ifCond .ge 7, 3) := dk_156 0 7 (dk_at dksX3_isWishAhead_0 19 rfl rfl)
theorem dX3_isWishAhead_22 : decode cX3_isWishAhead 22 = .ok (.iconst 1, 1) := dk_4 (dk_at dksX3_isWishAhead_0 22 rfl rfl)
theorem dX3_isWishAhead_23 : decode cX3_isWishAhead 23 = .ok (.goto 4, 3) := dk_167 0 4 (dk_at dksX3_isWishAhead_1 0 rfl rfl)
theorem dX3_isWishAhead_26 : decode cX3_isWishAhead 26 = .ok (.iconst 0, 1) := dk_3 (dk_at dksX3_isWishAhead_1 3 rfl rfl)
theorem dX3_isWishAhead_27 : decode cX3_isWishAhead 27 = .ok (.ireturn, 1) := dk_172 (dk_at dksX3_isWishAhead_1 4 rfl rfl)
theorem dX3_isWishAhead_28 : decode cX3_isWishAhead 28 = .ok (.aload_n 0, 1) := dk_42 (dk_at dksX3_isWishAhead_1 5 rfl rfl)
theorem dX3_isWishAhead_29 : decode cX3_isWishAhead 29 = .ok (.iload_n 1, 1) := dk_27 (dk_at dksX3_isWishAhead_1 6 rfl rfl)
theorem dX3_isWishAhead_30 : decode cX3_isWishAhead 30 = .ok (.iconst 0, 1) := dk_3 (dk_at dksX3_isWishAhead_1 7 rfl rfl)
theorem dX3_isWishAhead_31 : decode cX3_isWishAhead 31 = .ok (.invokevirtual 161, 3) := dk_182 0 161 (dk_at dksX3_isWishAhead_1 8 rfl rfl)
theorem dX3_isWishAhead_34 : decode cX3_isWishAhead 34 = .ok (.aload_n 0, 1) := dk_42 (dk_at dksX3_isWishAhead_1 11 rfl rfl)
theorem dX3_isWishAhead_35 : decode cX3_isWishAhead 35 = .ok (.iload_n 2, 1) := dk_28 (dk_at dksX3_isWishAhead_1 12 rfl rfl)
theorem dX3_isWishAhead_36 : decode cX3_isWishAhead 36 = .ok (.iconst 0, 1) := dk_3 (dk_at dksX3_isWishAhead_1 13 rfl rfl)
theorem dX3_isWishAhead_37 : decode cX3_isWishAhead 37 = .ok (.invokevirtual 161, 3) := dk_182 0 161 (dk_at dksX3_isWishAhead_1 14 rfl rfl)
theorem dX3_isWishAhead_40 : decode cX3_isWishAhead 40 = .ok (.isub, 1) := dk_100 (dk_at dksX3_isWishAhead_1 17 rfl rfl)
theorem dX3_isWishAhead_41 : decode cX3_isWishAhead 41 = .ok (.istore 4, 2) := dk_54 4 (dk_at dksX3_isWishAhead_1 18 rfl rfl)
theorem dX3_isWishAhead_43 : decode cX3_isWishAhead 43 = .ok (.iload 4, 2) := dk_21 4 (dk_at dksX3_isWishAhead_1 20 rfl rfl)
theorem dX3_isWishAhead_45 : decode cX3_isWishAhead 45 = .ok (.ifCond .eq 16, 3) := dk_153 0 16 (dk_at dksX3_isWishAhead_2 0 rfl rfl)
theorem dX3_isWishAhead_48 : decode cX3_isWishAhead 48 = .ok (.iload 4, 2) := dk_21 4 (dk_at dksX3_isWishAhead_2 3 rfl rfl)
theorem dX3_isWishAhead_50 : decode cX3_isWishAhead 50 = .ok (.ifCond .ge 7, 3) := dk_156 0 7 (dk_at dksX3_isWishAhead_2 5 rfl rfl)
theorem dX3_isWishAhead_53 : decode cX3_isWishAhead 53 = .ok (.iconst 1, 1) := dk_4 (dk_at dksX3_isWishAhead_2 8 rfl rfl)
theorem dX3_isWishAhead_54 : decode cX3_isWishAhead 54 = .ok (.goto 17, 3) := dk_167 0 17 (dk_at dksX3_isWishAhead_2 9 rfl rfl)
theorem dX3_isWishAhead_57 : decode cX3_isWishAhead 57 = .ok (.iconst 0, 1) := dk_3 (dk_at dksX3_isWishAhead_2 12 rfl rfl)
theorem dX3_isWishAhead_58 : decode cX3_isWishAhead 58 = .ok (.goto 13, 3) := dk_167 0 13 (dk_at dksX3_isWishAhead_2 13 rfl rfl)
theorem dX3_isWishAhead_61 : decode cX3_isWishAhead 61 = .ok (.iload_n 1, 1) := dk_27 (dk_at dksX3_isWishAhead_2 16 rfl rfl)
theorem dX3_isWishAhead_62 : decode cX3_isWishAhead 62 = .ok (.iload_n 2, 1) := dk_28 (dk_at dksX3_isWishAhead_2 17 rfl rfl)
theorem dX3_isWishAhead_63 : decode cX3_isWishAhead 63 = .ok (.if_icmp .ge 7, 3) := dk_162 0 7 (dk_at dksX3_isWishAhead_2 18 rfl rfl)
theorem dX3_isWishAhead_66 : decode cX3_isWishAhead 66 = .ok (.iconst 1, 1) := dk_4 (dk_at dksX3_isWishAhead_2 21 rfl rfl)
theorem dX3_isWishAhead_67 : decode cX3_isWishAhead 67 = .ok (.goto 4, 3) := dk_167 0 4 (dk_at dksX3_isWishAhead_3 0 rfl rfl)
theorem dX3_isWishAhead_70 : decode cX3_isWishAhead 70 = .ok (.iconst 0, 1) := dk_3 (dk_at dksX3_isWishAhead_3 3 rfl rfl)
theorem dX3_isWishAhead_71 : decode cX3_isWishAhead 71 = .ok (.ireturn, 1) := dk_172 (dk_at dksX3_isWishAhead_3 4 rfl rfl)
abbrev cX3_room : ByteArray := prog_16_method_53_code
def yX3_room : MethodName := ⟨RX3, "room", "(III)I"⟩
def dkwX3_room_2 : List UInt8 := [167, 255, 213, 2, 172]
abbrev dktX3_room_2 : List UInt8 := dkwX3_room_2 ++ []
def dkwX3_room_1 : List UInt8 := [27, 161, 0, 18, 42, 21, 4, 28, 29, 2, 182, 0, 102, 156, 0, 6, 21, 4, 172, 132, 4, 1]
abbrev dktX3_room_1 : List UInt8 := dkwX3_room_1 ++ dktX3_room_2
def dkwX3_room_0 : List UInt8 := [3, 54, 4, 21, 4, 42, 180, 0, 9, 3, 46, 162, 0, 38, 42, 180, 0, 9, 16, 6, 21, 4, 96, 46]
abbrev dktX3_room_0 : List UInt8 := dkwX3_room_0 ++ dktX3_room_1
theorem dksX3_room_0 : cX3_room.data.toList.drop 0 = dktX3_room_0 := by decide +kernel
theorem dksX3_room_1 : cX3_room.data.toList.drop 24 = dktX3_room_1 := dk_seg dksX3_room_0 24 rfl rfl
theorem dksX3_room_2 : cX3_room.data.toList.drop 46 = dktX3_room_2 := dk_seg dksX3_room_1 22 rfl rfl
theorem dX3_room_0 : decode cX3_room 0 = .ok (.iconst 0, 1) := dk_3 (dk_at dksX3_room_0 0 rfl rfl)
theorem dX3_room_1 : decode cX3_room 1 = .ok (.istore 4, 2) := dk_54 4 (dk_at dksX3_room_0 1 rfl rfl)
theorem dX3_room_3 : decode cX3_room 3 = .ok (.iload 4, 2) := dk_21 4 (dk_at dksX3_room_0 3 rfl rfl)
theorem dX3_room_5 : decode cX3_room 5 = .ok (.aload_n 0, 1) := dk_42 (dk_at dksX3_room_0 5 rfl rfl)
theorem dX3_room_6 : decode cX3_room 6 = .ok (.getfield 9, 3) := dk_180 0 9 (dk_at dksX3_room_0 6 rfl rfl)
theorem dX3_room_9 : decode cX3_room 9 = .ok (.iconst 0, 1) := dk_3 (dk_at dksX3_room_0 9 rfl rfl)
theorem dX3_room_10 : decode cX3_room 10 = .ok (.iaload, 1) := dk_46 (dk_at dksX3_room_0 10 rfl rfl)
theorem dX3_room_11 : decode cX3_room 11 = .ok (.if_icmp .ge 38, 3) := dk_162 0 38 (dk_at dksX3_room_0 11 rfl rfl)
theorem dX3_room_14 : decode cX3_room 14 = .ok (.aload_n 0, 1) := dk_42 (dk_at dksX3_room_0 14 rfl rfl)
theorem dX3_room_15 : decode cX3_room 15 = .ok (.getfield 9, 3) := dk_180 0 9 (dk_at dksX3_room_0 15 rfl rfl)
theorem dX3_room_18 : decode cX3_room 18 = .ok (.bipush 6, 2) := dk_16 6 (dk_at dksX3_room_0 18 rfl rfl)
theorem dX3_room_20 : decode cX3_room 20 = .ok (.iload 4, 2) := dk_21 4 (dk_at dksX3_room_0 20 rfl rfl)
theorem dX3_room_22 : decode cX3_room 22 = .ok (.iadd, 1) := dk_96 (dk_at dksX3_room_0 22 rfl rfl)
theorem dX3_room_23 : decode cX3_room 23 = .ok (.iaload, 1) := dk_46 (dk_at dksX3_room_0 23 rfl rfl)
theorem dX3_room_24 : decode cX3_room 24 = .ok (.iload_n 1, 1) := dk_27 (dk_at dksX3_room_1 0 rfl rfl)
theorem dX3_room_25 : decode cX3_room 25 = .ok (.if_icmp .lt 18, 3) := dk_161 0 18 (dk_at dksX3_room_1 1 rfl rfl)
theorem dX3_room_28 : decode cX3_room 28 = .ok (.aload_n 0, 1) := dk_42 (dk_at dksX3_room_1 4 rfl rfl)
theorem dX3_room_29 : decode cX3_room 29 = .ok (.iload 4, 2) := dk_21 4 (dk_at dksX3_room_1 5 rfl rfl)
theorem dX3_room_31 : decode cX3_room 31 = .ok (.iload_n 2, 1) := dk_28 (dk_at dksX3_room_1 7 rfl rfl)
theorem dX3_room_32 : decode cX3_room 32 = .ok (.iload_n 3, 1) := dk_29 (dk_at dksX3_room_1 8 rfl rfl)
theorem dX3_room_33 : decode cX3_room 33 = .ok (.iconst (-1), 1) := dk_2 (dk_at dksX3_room_1 9 rfl rfl)
theorem dX3_room_34 : decode cX3_room 34 = .ok (.invokevirtual 102, 3) := dk_182 0 102 (dk_at dksX3_room_1 10 rfl rfl)
theorem dX3_room_37 : decode cX3_room 37 = .ok (.ifCond .ge 6, 3) := dk_156 0 6 (dk_at dksX3_room_1 13 rfl rfl)
theorem dX3_room_40 : decode cX3_room 40 = .ok (.iload 4, 2) := dk_21 4 (dk_at dksX3_room_1 16 rfl rfl)
theorem dX3_room_42 : decode cX3_room 42 = .ok (.ireturn, 1) := dk_172 (dk_at dksX3_room_1 18 rfl rfl)
theorem dX3_room_43 : decode cX3_room 43 = .ok (.iinc 4 1, 3) := dk_132 4 1 (dk_at dksX3_room_1 19 rfl rfl)
theorem dX3_room_46 : decode cX3_room 46 = .ok (.goto (-43), 3) := dk_167 255 213 (dk_at dksX3_room_2 0 rfl rfl)
theorem dX3_room_49 : decode cX3_room 49 = .ok (.iconst (-1), 1) := dk_2 (dk_at dksX3_room_2 3 rfl rfl)
theorem dX3_room_50 : decode cX3_room 50 = .ok (.ireturn, 1) := dk_172 (dk_at dksX3_room_2 4 rfl rfl)
abbrev cX3_boxOf : ByteArray := prog_16_method_65_code
def yX3_boxOf : MethodName := ⟨RX3, "boxOf", "(II)I"⟩
def dkwX3_boxOf_5 : List UInt8 := [182, 0, 203, 172]
abbrev dktX3_boxOf_5 : List UInt8 := dkwX3_boxOf_5 ++ []
def dkwX3_boxOf_4 : List UInt8 := [28, 6, 160, 0, 7, 4, 167, 0, 4, 3, 3, 182, 0, 190, 172, 42, 27, 182, 0, 200, 172, 42, 27]
abbrev dktX3_boxOf_4 : List UInt8 := dkwX3_boxOf_4 ++ dktX3_boxOf_5
def dkwX3_boxOf_3 : List UInt8 := [42, 180, 0, 9, 16, 6, 27, 96, 46, 172, 42, 27, 182, 0, 194, 172, 42, 27, 182, 0, 197, 172, 42, 27]
abbrev dktX3_boxOf_3 : List UInt8 := dkwX3_boxOf_3 ++ dktX3_boxOf_4
def dkwX3_boxOf_2 : List UInt8 := [170, 0, 0, 0, 82, 0, 0, 0, 0, 0, 0, 0, 5, 0, 0, 0, 37, 0, 0, 0, 47, 0, 0, 0, 53, 0, 0, 0, 59, 0, 0, 0, 59, 0, 0, 0, 76]
abbrev dktX3_boxOf_2 : List UInt8 := dkwX3_boxOf_2 ++ dktX3_boxOf_3
def dkwX3_boxOf_1 : List UInt8 := [16, 6, 184, 0, 70, 154, 0, 7, 4, 167, 0, 4, 3, 5, 182, 0, 91, 153, 0, 5, 3, 172, 28]
abbrev dktX3_boxOf_1 : List UInt8 := dkwX3_boxOf_1 ++ dktX3_boxOf_2
def dkwX3_boxOf_0 : List UInt8 := [42, 42, 27, 182, 0, 109, 154, 0, 7, 4, 167, 0, 4, 3, 4, 182, 0, 91, 154, 0, 26, 42, 28, 3]
abbrev dktX3_boxOf_0 : List UInt8 := dkwX3_boxOf_0 ++ dktX3_boxOf_1
theorem dksX3_boxOf_0 : cX3_boxOf.data.toList.drop 0 = dktX3_boxOf_0 := by decide +kernel
theorem dksX3_boxOf_1 : cX3_boxOf.data.toList.drop 24 = dktX3_boxOf_1 := dk_seg dksX3_boxOf_0 24 rfl rfl
theorem dksX3_boxOf_2 : cX3_boxOf.data.toList.drop 47 = dktX3_boxOf_2 := dk_seg dksX3_boxOf_1 23 rfl rfl
theorem dksX3_boxOf_3 : cX3_boxOf.data.toList.drop 84 = dktX3_boxOf_3 := dk_seg dksX3_boxOf_2 37 rfl rfl
theorem dksX3_boxOf_4 : cX3_boxOf.data.toList.drop 108 = dktX3_boxOf_4 := dk_seg dksX3_boxOf_3 24 rfl rfl
theorem dksX3_boxOf_5 : cX3_boxOf.data.toList.drop 131 = dktX3_boxOf_5 := dk_seg dksX3_boxOf_4 23 rfl rfl
theorem dX3_boxOf_0 : decode cX3_boxOf 0 = .ok (.aload_n 0, 1) := dk_42 (dk_at dksX3_boxOf_0 0 rfl rfl)
theorem dX3_boxOf_1 : decode cX3_boxOf 1 = .ok (.aload_n 0, 1) := dk_42 (dk_at dksX3_boxOf_0 1 rfl rfl)
theorem dX3_boxOf_2 : decode cX3_boxOf 2 = .ok (.iload_n 1, 1) := dk_27 (dk_at dksX3_boxOf_0 2 rfl rfl)
theorem dX3_boxOf_3 : decode cX3_boxOf 3 = .ok (.invokevirtual 109, 3) := dk_182 0 109 (dk_at dksX3_boxOf_0 3 rfl rfl)
theorem dX3_boxOf_6 : decode cX3_boxOf 6 = .ok (.ifCond .ne 7, 3) := dk_154 0 7 (dk_at dksX3_boxOf_0 6 rfl rfl)
theorem dX3_boxOf_9 : decode cX3_boxOf 9 = .ok (.iconst 1, 1) := dk_4 (dk_at dksX3_boxOf_0 9 rfl rfl)
theorem dX3_boxOf_10 : decode cX3_boxOf 10 = .ok (.goto 4, 3) := dk_167 0 4 (dk_at dksX3_boxOf_0 10 rfl rfl)
theorem dX3_boxOf_13 : decode cX3_boxOf 13 = .ok (.iconst 0, 1) := dk_3 (dk_at dksX3_boxOf_0 13 rfl rfl)
theorem dX3_boxOf_14 : decode cX3_boxOf 14 = .ok (.iconst 1, 1) := dk_4 (dk_at dksX3_boxOf_0 14 rfl rfl)
theorem dX3_boxOf_15 : decode cX3_boxOf 15 = .ok (.invokevirtual 91, 3) := dk_182 0 91 (dk_at dksX3_boxOf_0 15 rfl rfl)
theorem dX3_boxOf_18 : decode cX3_boxOf 18 = .ok (.ifCond .ne 26, 3) := dk_154 0 26 (dk_at dksX3_boxOf_0 18 rfl rfl)
theorem dX3_boxOf_21 : decode cX3_boxOf 21 = .ok (.aload_n 0, 1) := dk_42 (dk_at dksX3_boxOf_0 21 rfl rfl)
theorem dX3_boxOf_22 : decode cX3_boxOf 22 = .ok (.iload_n 2, 1) := dk_28 (dk_at dksX3_boxOf_0 22 rfl rfl)
theorem dX3_boxOf_23 : decode cX3_boxOf 23 = .ok (.iconst 0, 1) := dk_3 (dk_at dksX3_boxOf_0 23 rfl rfl)
theorem dX3_boxOf_24 : decode cX3_boxOf 24 = .ok (.bipush 6, 2) := dk_16 6 (dk_at dksX3_boxOf_1 0 rfl rfl)
theorem dX3_boxOf_26 : decode cX3_boxOf 26 = .ok (.invokestatic 70, 3) := dk_184 0 70 (dk_at dksX3_boxOf_1 2 rfl rfl)
theorem dX3_boxOf_29 : decode cX3_boxOf 29 = .ok (.ifCond .ne 7, 3) := dk_154 0 7 (dk_at dksX3_boxOf_1 5 rfl rfl)
theorem dX3_boxOf_32 : decode cX3_boxOf 32 = .ok (.iconst 1, 1) := dk_4 (dk_at dksX3_boxOf_1 8 rfl rfl)
theorem dX3_boxOf_33 : decode cX3_boxOf 33 = .ok (.goto 4, 3) := dk_167 0 4 (dk_at dksX3_boxOf_1 9 rfl rfl)
theorem dX3_boxOf_36 : decode cX3_boxOf 36 = .ok (.iconst 0, 1) := dk_3 (dk_at dksX3_boxOf_1 12 rfl rfl)
theorem dX3_boxOf_37 : decode cX3_boxOf 37 = .ok (.iconst 2, 1) := dk_5 (dk_at dksX3_boxOf_1 13 rfl rfl)
theorem dX3_boxOf_38 : decode cX3_boxOf 38 = .ok (.invokevirtual 91, 3) := dk_182 0 91 (dk_at dksX3_boxOf_1 14 rfl rfl)
theorem dX3_boxOf_41 : decode cX3_boxOf 41 = .ok (.ifCond .eq 5, 3) := dk_153 0 5 (dk_at dksX3_boxOf_1 17 rfl rfl)
theorem dX3_boxOf_44 : decode cX3_boxOf 44 = .ok (.iconst 0, 1) := dk_3 (dk_at dksX3_boxOf_1 20 rfl rfl)
theorem dX3_boxOf_45 : decode cX3_boxOf 45 = .ok (.ireturn, 1) := dk_172 (dk_at dksX3_boxOf_1 21 rfl rfl)
theorem dX3_boxOf_46 : decode cX3_boxOf 46 = .ok (.iload_n 2, 1) := dk_28 (dk_at dksX3_boxOf_1 22 rfl rfl)
theorem dX3_boxOf_47 : decode cX3_boxOf 47 = .ok (.tableswitch 82 0 5 #[37, 47, 53, 59, 59, 76], 37) := by decide +kernel
theorem dX3_boxOf_84 : decode cX3_boxOf 84 = .ok (.aload_n 0, 1) := dk_42 (dk_at dksX3_boxOf_3 0 rfl rfl)
theorem dX3_boxOf_85 : decode cX3_boxOf 85 = .ok (.getfield 9, 3) := dk_180 0 9 (dk_at dksX3_boxOf_3 1 rfl rfl)
theorem dX3_boxOf_88 : decode cX3_boxOf 88 = .ok (.bipush 6, 2) := dk_16 6 (dk_at dksX3_boxOf_3 4 rfl rfl)
theorem dX3_boxOf_90 : decode cX3_boxOf 90 = .ok (.iload_n 1, 1) := dk_27 (dk_at dksX3_boxOf_3 6 rfl rfl)
theorem dX3_boxOf_91 : decode cX3_boxOf 91 = .ok (.iadd, 1) := dk_96 (dk_at dksX3_boxOf_3 7 rfl rfl)
theorem dX3_boxOf_92 : decode cX3_boxOf 92 = .ok (.iaload, 1) := dk_46 (dk_at dksX3_boxOf_3 8 rfl rfl)
theorem dX3_boxOf_93 : decode cX3_boxOf 93 = .ok (.ireturn, 1) := dk_172 (dk_at dksX3_boxOf_3 9 rfl rfl)
theorem dX3_boxOf_94 : decode cX3_boxOf 94 = .ok (.aload_n 0, 1) := dk_42 (dk_at dksX3_boxOf_3 10 rfl rfl)
theorem dX3_boxOf_95 : decode cX3_boxOf 95 = .ok (.iload_n 1, 1) := dk_27 (dk_at dksX3_boxOf_3 11 rfl rfl)
theorem dX3_boxOf_96 : decode cX3_boxOf 96 = .ok (.invokevirtual 194, 3) := dk_182 0 194 (dk_at dksX3_boxOf_3 12 rfl rfl)
theorem dX3_boxOf_99 : decode cX3_boxOf 99 = .ok (.ireturn, 1) := dk_172 (dk_at dksX3_boxOf_3 15 rfl rfl)
theorem dX3_boxOf_100 : decode cX3_boxOf 100 = .ok (.aload_n 0, 1) := dk_42 (dk_at dksX3_boxOf_3 16 rfl rfl)
theorem dX3_boxOf_101 : decode cX3_boxOf 101 = .ok (.iload_n 1, 1) := dk_27 (dk_at dksX3_boxOf_3 17 rfl rfl)
theorem dX3_boxOf_102 : decode cX3_boxOf 102 = .ok (.invokevirtual 197, 3) := dk_182 0 197 (dk_at dksX3_boxOf_3 18 rfl rfl)
theorem dX3_boxOf_105 : decode cX3_boxOf 105 = .ok (.ireturn, 1) := dk_172 (dk_at dksX3_boxOf_3 21 rfl rfl)
theorem dX3_boxOf_106 : decode cX3_boxOf 106 = .ok (.aload_n 0, 1) := dk_42 (dk_at dksX3_boxOf_3 22 rfl rfl)
theorem dX3_boxOf_107 : decode cX3_boxOf 107 = .ok (.iload_n 1, 1) := dk_27 (dk_at dksX3_boxOf_3 23 rfl rfl)
theorem dX3_boxOf_108 : decode cX3_boxOf 108 = .ok (.iload_n 2, 1) := dk_28 (dk_at dksX3_boxOf_4 0 rfl rfl)
theorem dX3_boxOf_109 : decode cX3_boxOf 109 = .ok (.iconst 3, 1) := dk_6 (dk_at dksX3_boxOf_4 1 rfl rfl)
theorem dX3_boxOf_110 : decode cX3_boxOf 110 = .ok (.if_icmp .ne 7, 3) := dk_160 0 7 (dk_at dksX3_boxOf_4 2 rfl rfl)
theorem dX3_boxOf_113 : decode cX3_boxOf 113 = .ok (.iconst 1, 1) := dk_4 (dk_at dksX3_boxOf_4 5 rfl rfl)
theorem dX3_boxOf_114 : decode cX3_boxOf 114 = .ok (.goto 4, 3) := dk_167 0 4 (dk_at dksX3_boxOf_4 6 rfl rfl)
theorem dX3_boxOf_117 : decode cX3_boxOf 117 = .ok (.iconst 0, 1) := dk_3 (dk_at dksX3_boxOf_4 9 rfl rfl)
theorem dX3_boxOf_118 : decode cX3_boxOf 118 = .ok (.iconst 0, 1) := dk_3 (dk_at dksX3_boxOf_4 10 rfl rfl)
theorem dX3_boxOf_119 : decode cX3_boxOf 119 = .ok (.invokevirtual 190, 3) := dk_182 0 190 (dk_at dksX3_boxOf_4 11 rfl rfl)
theorem dX3_boxOf_122 : decode cX3_boxOf 122 = .ok (.ireturn, 1) := dk_172 (dk_at dksX3_boxOf_4 14 rfl rfl)
theorem dX3_boxOf_123 : decode cX3_boxOf 123 = .ok (.aload_n 0, 1) := dk_42 (dk_at dksX3_boxOf_4 15 rfl rfl)
theorem dX3_boxOf_124 : decode cX3_boxOf 124 = .ok (.iload_n 1, 1) := dk_27 (dk_at dksX3_boxOf_4 16 rfl rfl)
theorem dX3_boxOf_125 : decode cX3_boxOf 125 = .ok (.invokevirtual 200, 3) := dk_182 0 200 (dk_at dksX3_boxOf_4 17 rfl rfl)
theorem dX3_boxOf_128 : decode cX3_boxOf 128 = .ok (.ireturn, 1) := dk_172 (dk_at dksX3_boxOf_4 20 rfl rfl)
theorem dX3_boxOf_129 : decode cX3_boxOf 129 = .ok (.aload_n 0, 1) := dk_42 (dk_at dksX3_boxOf_4 21 rfl rfl)
theorem dX3_boxOf_130 : decode cX3_boxOf 130 = .ok (.iload_n 1, 1) := dk_27 (dk_at dksX3_boxOf_4 22 rfl rfl)
theorem dX3_boxOf_131 : decode cX3_boxOf 131 = .ok (.invokevirtual 203, 3) := dk_182 0 203 (dk_at dksX3_boxOf_5 0 rfl rfl)
theorem dX3_boxOf_134 : decode cX3_boxOf 134 = .ok (.ireturn, 1) := dk_172 (dk_at dksX3_boxOf_5 3 rfl rfl)
abbrev cX3_lettingsIn : ByteArray := prog_16_method_64_code
def yX3_lettingsIn : MethodName := ⟨RX3, "lettingsIn", "(I)I"⟩
def dkwX3_lettingsIn_1 : List UInt8 := [29, 3, 182, 0, 78, 27, 160, 0, 7, 4, 167, 0, 4, 3, 96, 61, 132, 3, 1, 167, 255, 217, 28, 172]
abbrev dktX3_lettingsIn_1 : List UInt8 := dkwX3_lettingsIn_1 ++ []
def dkwX3_lettingsIn_0 : List UInt8 := [3, 61, 3, 62, 29, 42, 180, 0, 9, 4, 46, 162, 0, 35, 28, 42, 29, 182, 0, 81, 154, 0, 17, 42]
abbrev dktX3_lettingsIn_0 : List UInt8 := dkwX3_lettingsIn_0 ++ dktX3_lettingsIn_1
theorem dksX3_lettingsIn_0 : cX3_lettingsIn.data.toList.drop 0 = dktX3_lettingsIn_0 := by decide +kernel
theorem dksX3_lettingsIn_1 : cX3_lettingsIn.data.toList.drop 24 = dktX3_lettingsIn_1 := dk_seg dksX3_lettingsIn_0 24 rfl rfl
theorem dX3_lettingsIn_0 : decode cX3_lettingsIn 0 = .ok (.iconst 0, 1) := dk_3 (dk_at dksX3_lettingsIn_0 0 rfl rfl)
theorem dX3_lettingsIn_1 : decode cX3_lettingsIn 1 = .ok (.istore_n 2, 1) := dk_61 (dk_at dksX3_lettingsIn_0 1 rfl rfl)
theorem dX3_lettingsIn_2 : decode cX3_lettingsIn 2 = .ok (.iconst 0, 1) := dk_3 (dk_at dksX3_lettingsIn_0 2 rfl rfl)
theorem dX3_lettingsIn_3 : decode cX3_lettingsIn 3 = .ok (.istore_n 3, 1) := dk_62 (dk_at dksX3_lettingsIn_0 3 rfl rfl)
theorem dX3_lettingsIn_4 : decode cX3_lettingsIn 4 = .ok (.iload_n 3, 1) := dk_29 (dk_at dksX3_lettingsIn_0 4 rfl rfl)
theorem dX3_lettingsIn_5 : decode cX3_lettingsIn 5 = .ok (.aload_n 0, 1) := dk_42 (dk_at dksX3_lettingsIn_0 5 rfl rfl)
theorem dX3_lettingsIn_6 : decode cX3_lettingsIn 6 = .ok (.getfield 9, 3) := dk_180 0 9 (dk_at dksX3_lettingsIn_0 6 rfl rfl)
theorem dX3_lettingsIn_9 : decode cX3_lettingsIn 9 = .ok (.iconst 1, 1) := dk_4 (dk_at dksX3_lettingsIn_0 9 rfl rfl)
theorem dX3_lettingsIn_10 : decode cX3_lettingsIn 10 = .ok (.iaload, 1) := dk_46 (dk_at dksX3_lettingsIn_0 10 rfl rfl)
theorem dX3_lettingsIn_11 : decode cX3_lettingsIn 11 = .ok (.if_icmp .ge 35, 3) := dk_162 0 35 (dk_at dksX3_lettingsIn_0 11 rfl rfl)
theorem dX3_lettingsIn_14 : decode cX3_lettingsIn 14 = .ok (.iload_n 2, 1) := dk_28 (dk_at dksX3_lettingsIn_0 14 rfl rfl)
theorem dX3_lettingsIn_15 : decode cX3_lettingsIn 15 = .ok (.aload_n 0, 1) := dk_42 (dk_at dksX3_lettingsIn_0 15 rfl rfl)
theorem dX3_lettingsIn_16 : decode cX3_lettingsIn 16 = .ok (.iload_n 3, 1) := dk_29 (dk_at dksX3_lettingsIn_0 16 rfl rfl)
theorem dX3_lettingsIn_17 : decode cX3_lettingsIn 17 = .ok (.invokevirtual 81, 3) := dk_182 0 81 (dk_at dksX3_lettingsIn_0 17 rfl rfl)
theorem dX3_lettingsIn_20 : decode cX3_lettingsIn 20 = .ok (.ifCond .ne 17, 3) := dk_154 0 17 (dk_at dksX3_lettingsIn_0 20 rfl rfl)
theorem dX3_lettingsIn_23 : decode cX3_lettingsIn 23 = .ok (.aload_n 0, 1) := dk_42 (dk_at dksX3_lettingsIn_0 23 rfl rfl)
theorem dX3_lettingsIn_24 : decode cX3_lettingsIn 24 = .ok (.iload_n 3, 1) := dk_29 (dk_at dksX3_lettingsIn_1 0 rfl rfl)
theorem dX3_lettingsIn_25 : decode cX3_lettingsIn 25 = .ok (.iconst 0, 1) := dk_3 (dk_at dksX3_lettingsIn_1 1 rfl rfl)
theorem dX3_lettingsIn_26 : decode cX3_lettingsIn 26 = .ok (.invokevirtual 78, 3) := dk_182 0 78 (dk_at dksX3_lettingsIn_1 2 rfl rfl)
theorem dX3_lettingsIn_29 : decode cX3_lettingsIn 29 = .ok (.iload_n 1, 1) := dk_27 (dk_at dksX3_lettingsIn_1 5 rfl rfl)
theorem dX3_lettingsIn_30 : decode cX3_lettingsIn 30 = .ok (.if_icmp .ne 7, 3) := dk_160 0 7 (dk_at dksX3_lettingsIn_1 6 rfl rfl)
theorem dX3_lettingsIn_33 : decode cX3_lettingsIn 33 = .ok (.iconst 1, 1) := dk_4 (dk_at dksX3_lettingsIn_1 9 rfl rfl)
theorem dX3_lettingsIn_34 : decode cX3_lettingsIn 34 = .ok (.goto 4, 3) := dk_167 0 4 (dk_at dksX3_lettingsIn_1 10 rfl rfl)
theorem dX3_lettingsIn_37 : decode cX3_lettingsIn 37 = .ok (.iconst 0, 1) := dk_3 (dk_at dksX3_lettingsIn_1 13 rfl rfl)
theorem dX3_lettingsIn_38 : decode cX3_lettingsIn 38 = .ok (.iadd, 1) := dk_96 (dk_at dksX3_lettingsIn_1 14 rfl rfl)
theorem dX3_lettingsIn_39 : decode cX3_lettingsIn 39 = .ok (.istore_n 2, 1) := dk_61 (dk_at dksX3_lettingsIn_1 15 rfl rfl)
theorem dX3_lettingsIn_40 : decode cX3_lettingsIn 40 = .ok (.iinc 3 1, 3) := dk_132 3 1 (dk_at dksX3_lettingsIn_1 16 rfl rfl)
theorem dX3_lettingsIn_43 : decode cX3_lettingsIn 43 = .ok (.goto (-39), 3) := dk_167 255 217 (dk_at dksX3_lettingsIn_1 19 rfl rfl)
theorem dX3_lettingsIn_46 : decode cX3_lettingsIn 46 = .ok (.iload_n 2, 1) := dk_28 (dk_at dksX3_lettingsIn_1 22 rfl rfl)
theorem dX3_lettingsIn_47 : decode cX3_lettingsIn 47 = .ok (.ireturn, 1) := dk_172 (dk_at dksX3_lettingsIn_1 23 rfl rfl)
abbrev cX3_minutesLet : ByteArray := prog_16_method_59_code
def yX3_minutesLet : MethodName := ⟨RX3, "minutesLet", "(I)I"⟩
def dkwX3_minutesLet_0 : List UInt8 := [42, 27, 3, 17, 2, 88, 182, 0, 181, 172]
abbrev dktX3_minutesLet_0 : List UInt8 := dkwX3_minutesLet_0 ++ []
theorem dksX3_minutesLet_0 : cX3_minutesLet.data.toList.drop 0 = dktX3_minutesLet_0 := by decide +kernel
theorem dX3_minutesLet_0 : decode cX3_minutesLet 0 = .ok (.aload_n 0, 1) := dk_42 (dk_at dksX3_minutesLet_0 0 rfl rfl)
theorem dX3_minutesLet_1 : decode cX3_minutesLet 1 = .ok (.iload_n 1, 1) := dk_27 (dk_at dksX3_minutesLet_0 1 rfl rfl)
theorem dX3_minutesLet_2 : decode cX3_minutesLet 2 = .ok (.iconst 0, 1) := dk_3 (dk_at dksX3_minutesLet_0 2 rfl rfl)
theorem dX3_minutesLet_3 : decode cX3_minutesLet 3 = .ok (.sipush 600, 3) := dk_17 2 88 (dk_at dksX3_minutesLet_0 3 rfl rfl)
theorem dX3_minutesLet_6 : decode cX3_minutesLet 6 = .ok (.invokevirtual 181, 3) := dk_182 0 181 (dk_at dksX3_minutesLet_0 6 rfl rfl)
theorem dX3_minutesLet_9 : decode cX3_minutesLet 9 = .ok (.ireturn, 1) := dk_172 (dk_at dksX3_minutesLet_0 9 rfl rfl)
abbrev cX3_letIn : ByteArray := prog_16_method_58_code
def yX3_letIn : MethodName := ⟨RX3, "letIn", "(III)I"⟩
def dkwX3_letIn_3 : List UInt8 := [132, 5, 1, 167, 255, 190, 21, 4, 172]
abbrev dktX3_letIn_3 : List UInt8 := dkwX3_letIn_3 ++ []
def dkwX3_letIn_2 : List UInt8 := [182, 0, 78, 184, 0, 130, 28, 42, 21, 5, 4, 182, 0, 78, 184, 0, 133, 100, 184, 0, 133, 96, 54, 4]
abbrev dktX3_letIn_2 : List UInt8 := dkwX3_letIn_2 ++ dktX3_letIn_3
def dkwX3_letIn_1 : List UInt8 := [154, 0, 46, 42, 21, 5, 3, 182, 0, 78, 27, 160, 0, 35, 21, 4, 3, 29, 42, 21, 5, 5]
abbrev dktX3_letIn_1 : List UInt8 := dkwX3_letIn_1 ++ dktX3_letIn_2
def dkwX3_letIn_0 : List UInt8 := [3, 54, 4, 3, 54, 5, 21, 5, 42, 180, 0, 9, 4, 46, 162, 0, 61, 42, 21, 5, 182, 0, 81]
abbrev dktX3_letIn_0 : List UInt8 := dkwX3_letIn_0 ++ dktX3_letIn_1
theorem dksX3_letIn_0 : cX3_letIn.data.toList.drop 0 = dktX3_letIn_0 := by decide +kernel
theorem dksX3_letIn_1 : cX3_letIn.data.toList.drop 23 = dktX3_letIn_1 := dk_seg dksX3_letIn_0 23 rfl rfl
theorem dksX3_letIn_2 : cX3_letIn.data.toList.drop 45 = dktX3_letIn_2 := dk_seg dksX3_letIn_1 22 rfl rfl
theorem dksX3_letIn_3 : cX3_letIn.data.toList.drop 69 = dktX3_letIn_3 := dk_seg dksX3_letIn_2 24 rfl rfl
theorem dX3_letIn_0 : decode cX3_letIn 0 = .ok (.iconst 0, 1) := dk_3 (dk_at dksX3_letIn_0 0 rfl rfl)
theorem dX3_letIn_1 : decode cX3_letIn 1 = .ok (.istore 4, 2) := dk_54 4 (dk_at dksX3_letIn_0 1 rfl rfl)
theorem dX3_letIn_3 : decode cX3_letIn 3 = .ok (.iconst 0, 1) := dk_3 (dk_at dksX3_letIn_0 3 rfl rfl)
theorem dX3_letIn_4 : decode cX3_letIn 4 = .ok (.istore 5, 2) := dk_54 5 (dk_at dksX3_letIn_0 4 rfl rfl)
theorem dX3_letIn_6 : decode cX3_letIn 6 = .ok (.iload 5, 2) := dk_21 5 (dk_at dksX3_letIn_0 6 rfl rfl)
theorem dX3_letIn_8 : decode cX3_letIn 8 = .ok (.aload_n 0, 1) := dk_42 (dk_at dksX3_letIn_0 8 rfl rfl)
theorem dX3_letIn_9 : decode cX3_letIn 9 = .ok (.getfield 9, 3) := dk_180 0 9 (dk_at dksX3_letIn_0 9 rfl rfl)
theorem dX3_letIn_12 : decode cX3_letIn 12 = .ok (.iconst 1, 1) := dk_4 (dk_at dksX3_letIn_0 12 rfl rfl)
theorem dX3_letIn_13 : decode cX3_letIn 13 = .ok (.iaload, 1) := dk_46 (dk_at dksX3_letIn_0 13 rfl rfl)
theorem dX3_letIn_14 : decode cX3_letIn 14 = .ok (.if_icmp .ge 61, 3) := dk_162 0 61 (dk_at dksX3_letIn_0 14 rfl rfl)
theorem dX3_letIn_17 : decode cX3_letIn 17 = .ok (.aload_n 0, 1) := dk_42 (dk_at dksX3_letIn_0 17 rfl rfl)
theorem dX3_letIn_18 : decode cX3_letIn 18 = .ok (.iload 5, 2) := dk_21 5 (dk_at dksX3_letIn_0 18 rfl rfl)
theorem dX3_letIn_20 : decode cX3_letIn 20 = .ok (.invokevirtual 81, 3) := dk_182 0 81 (dk_at dksX3_letIn_0 20 rfl rfl)
theorem dX3_letIn_23 : decode cX3_letIn 23 = .ok (.ifCond .ne 46, 3) := dk_154 0 46 (dk_at dksX3_letIn_1 0 rfl rfl)
theorem dX3_letIn_26 : decode cX3_letIn 26 = .ok (.aload_n 0, 1) := dk_42 (dk_at dksX3_letIn_1 3 rfl rfl)
theorem dX3_letIn_27 : decode cX3_letIn 27 = .ok (.iload 5, 2) := dk_21 5 (dk_at dksX3_letIn_1 4 rfl rfl)
theorem dX3_letIn_29 : decode cX3_letIn 29 = .ok (.iconst 0, 1) := dk_3 (dk_at dksX3_letIn_1 6 rfl rfl)
theorem dX3_letIn_30 : decode cX3_letIn 30 = .ok (.invokevirtual 78, 3) := dk_182 0 78 (dk_at dksX3_letIn_1 7 rfl rfl)
theorem dX3_letIn_33 : decode cX3_letIn 33 = .ok (.iload_n 1, 1) := dk_27 (dk_at dksX3_letIn_1 10 rfl rfl)
theorem dX3_letIn_34 : decode cX3_letIn 34 = .ok (.if_icmp .ne 35, 3) := dk_160 0 35 (dk_at dksX3_letIn_1 11 rfl rfl)
theorem dX3_letIn_37 : decode cX3_letIn 37 = .ok (.iload 4, 2) := dk_21 4 (dk_at dksX3_letIn_1 14 rfl rfl)
theorem dX3_letIn_39 : decode cX3_letIn 39 = .ok (.iconst 0, 1) := dk_3 (dk_at dksX3_letIn_1 16 rfl rfl)
theorem dX3_letIn_40 : decode cX3_letIn 40 = .ok (.iload_n 3, 1) := dk_29 (dk_at dksX3_letIn_1 17 rfl rfl)
theorem dX3_letIn_41 : decode cX3_letIn 41 = .ok (.aload_n 0, 1) := dk_42 (dk_at dksX3_letIn_1 18 rfl rfl)
theorem dX3_letIn_42 : decode cX3_letIn 42 = .ok (.iload 5, 2) := dk_21 5 (dk_at dksX3_letIn_1 19 rfl rfl)
theorem dX3_letIn_44 : decode cX3_letIn 44 = .ok (.iconst 2, 1) := dk_5 (dk_at dksX3_letIn_1 21 rfl rfl)
theorem dX3_letIn_45 : decode cX3_letIn 45 = .ok (.invokevirtual 78, 3) := dk_182 0 78 (dk_at dksX3_letIn_2 0 rfl rfl)
theorem dX3_letIn_48 : decode cX3_letIn 48 = .ok (.invokestatic 130, 3) := dk_184 0 130 (dk_at dksX3_letIn_2 3 rfl rfl)
theorem dX3_letIn_51 : decode cX3_letIn 51 = .ok (.iload_n 2, 1) := dk_28 (dk_at dksX3_letIn_2 6 rfl rfl)
theorem dX3_letIn_52 : decode cX3_letIn 52 = .ok (.aload_n 0, 1) := dk_42 (dk_at dksX3_letIn_2 7 rfl rfl)
theorem dX3_letIn_53 : decode cX3_letIn 53 = .ok (.iload 5, 2) := dk_21 5 (dk_at dksX3_letIn_2 8 rfl rfl)
theorem dX3_letIn_55 : decode cX3_letIn 55 = .ok (.iconst 1, 1) := dk_4 (dk_at dksX3_letIn_2 10 rfl rfl)
theorem dX3_letIn_56 : decode cX3_letIn 56 = .ok (.invokevirtual 78, 3) := dk_182 0 78 (dk_at dksX3_letIn_2 11 rfl rfl)
theorem dX3_letIn_59 : decode cX3_letIn 59 = .ok (.invokestatic 133, 3) := dk_184 0 133 (dk_at dksX3_letIn_2 14 rfl rfl)
theorem dX3_letIn_62 : decode cX3_letIn 62 = .ok (.isub, 1) := dk_100 (dk_at dksX3_letIn_2 17 rfl rfl)
theorem dX3_letIn_63 : decode cX3_letIn 63 = .ok (.invokestatic 133, 3) := dk_184 0 133 (dk_at dksX3_letIn_2 18 rfl rfl)
theorem dX3_letIn_66 : decode cX3_letIn 66 = .ok (.iadd, 1) := dk_96 (dk_at dksX3_letIn_2 21 rfl rfl)
theorem dX3_letIn_67 : decode cX3_letIn 67 = .ok (.istore 4, 2) := dk_54 4 (dk_at dksX3_letIn_2 22 rfl rfl)
theorem dX3_letIn_69 : decode cX3_letIn 69 = .ok (.iinc 5 1, 3) := dk_132 5 1 (dk_at dksX3_letIn_3 0 rfl rfl)
theorem dX3_letIn_72 : decode cX3_letIn 72 = .ok (.goto (-66), 3) := dk_167 255 190 (dk_at dksX3_letIn_3 3 rfl rfl)
theorem dX3_letIn_75 : decode cX3_letIn 75 = .ok (.iload 4, 2) := dk_21 4 (dk_at dksX3_letIn_3 6 rfl rfl)
theorem dX3_letIn_77 : decode cX3_letIn 77 = .ok (.ireturn, 1) := dk_172 (dk_at dksX3_letIn_3 8 rfl rfl)
abbrev cX3_spans : ByteArray := prog_16_method_61_code
def yX3_spans : MethodName := ⟨RX3, "spans", "(IZI)I"⟩
def dkwX3_spans_6 : List UInt8 := [181, 0, 187, 132, 4, 1, 167, 255, 116, 21, 4, 172]
abbrev dktX3_spans_6 : List UInt8 := dkwX3_spans_6 ++ []
def dkwX3_spans_5 : List UInt8 := [79, 42, 21, 4, 154, 0, 7, 3, 167, 0, 7, 42, 180, 0, 187, 21, 5, 21, 6, 100, 184, 0, 133]
abbrev dktX3_spans_5 : List UInt8 := dkwX3_spans_5 ++ dktX3_spans_6
def dkwX3_spans_4 : List UInt8 := [46, 79, 42, 180, 0, 29, 4, 21, 4, 29, 160, 0, 8, 21, 5, 167, 0, 9, 42, 180, 0, 29, 4, 46]
abbrev dktX3_spans_4 : List UInt8 := dkwX3_spans_4 ++ dktX3_spans_5
def dkwX3_spans_3 : List UInt8 := [153, 0, 77, 42, 180, 0, 29, 3, 21, 4, 29, 160, 0, 8, 21, 6, 167, 0, 9, 42, 180, 0, 29, 3]
abbrev dktX3_spans_3 : List UInt8 := dkwX3_spans_3 ++ dktX3_spans_4
def dkwX3_spans_2 : List UInt8 := [21, 5, 182, 0, 184, 42, 27, 21, 6, 182, 0, 184, 160, 0, 9, 132, 5, 1, 167, 255, 228, 21, 7]
abbrev dktX3_spans_2 : List UInt8 := dkwX3_spans_2 ++ dktX3_spans_3
def dkwX3_spans_1 : List UInt8 := [182, 0, 184, 28, 160, 0, 7, 4, 167, 0, 4, 3, 54, 7, 21, 5, 17, 2, 88, 162, 0, 26, 42, 27]
abbrev dktX3_spans_1 : List UInt8 := dkwX3_spans_1 ++ dktX3_spans_2
def dkwX3_spans_0 : List UInt8 := [3, 54, 4, 3, 54, 5, 21, 5, 17, 2, 88, 162, 0, 138, 21, 5, 54, 6, 42, 27, 21, 5]
abbrev dktX3_spans_0 : List UInt8 := dkwX3_spans_0 ++ dktX3_spans_1
theorem dksX3_spans_0 : cX3_spans.data.toList.drop 0 = dktX3_spans_0 := by decide +kernel
theorem dksX3_spans_1 : cX3_spans.data.toList.drop 22 = dktX3_spans_1 := dk_seg dksX3_spans_0 22 rfl rfl
theorem dksX3_spans_2 : cX3_spans.data.toList.drop 46 = dktX3_spans_2 := dk_seg dksX3_spans_1 24 rfl rfl
theorem dksX3_spans_3 : cX3_spans.data.toList.drop 69 = dktX3_spans_3 := dk_seg dksX3_spans_2 23 rfl rfl
theorem dksX3_spans_4 : cX3_spans.data.toList.drop 93 = dktX3_spans_4 := dk_seg dksX3_spans_3 24 rfl rfl
theorem dksX3_spans_5 : cX3_spans.data.toList.drop 117 = dktX3_spans_5 := dk_seg dksX3_spans_4 24 rfl rfl
theorem dksX3_spans_6 : cX3_spans.data.toList.drop 140 = dktX3_spans_6 := dk_seg dksX3_spans_5 23 rfl rfl
theorem dX3_spans_0 : decode cX3_spans 0 = .ok (.iconst 0, 1) := dk_3 (dk_at dksX3_spans_0 0 rfl rfl)
theorem dX3_spans_1 : decode cX3_spans 1 = .ok (.istore 4, 2) := dk_54 4 (dk_at dksX3_spans_0 1 rfl rfl)
theorem dX3_spans_3 : decode cX3_spans 3 = .ok (.iconst 0, 1) := dk_3 (dk_at dksX3_spans_0 3 rfl rfl)
theorem dX3_spans_4 : decode cX3_spans 4 = .ok (.istore 5, 2) := dk_54 5 (dk_at dksX3_spans_0 4 rfl rfl)
theorem dX3_spans_6 : decode cX3_spans 6 = .ok (.iload 5, 2) := dk_21 5 (dk_at dksX3_spans_0 6 rfl rfl)
theorem dX3_spans_8 : decode cX3_spans 8 = .ok (.sipush 600, 3) := dk_17 2 88 (dk_at dksX3_spans_0 8 rfl rfl)
theorem dX3_spans_11 : decode cX3_spans 11 = .ok (.if_icmp .ge 138, 3) := dk_162 0 138 (dk_at dksX3_spans_0 11 rfl rfl)
theorem dX3_spans_14 : decode cX3_spans 14 = .ok (.iload 5, 2) := dk_21 5 (dk_at dksX3_spans_0 14 rfl rfl)
theorem dX3_spans_16 : decode cX3_spans 16 = .ok (.istore 6, 2) := dk_54 6 (dk_at dksX3_spans_0 16 rfl rfl)
theorem dX3_spans_18 : decode cX3_spans 18 = .ok (.aload_n 0, 1) := dk_42 (dk_at dksX3_spans_0 18 rfl rfl)
theorem dX3_spans_19 : decode cX3_spans 19 = .ok (.iload_n 1, 1) := dk_27 (dk_at dksX3_spans_0 19 rfl rfl)
theorem dX3_spans_20 : decode cX3_spans 20 = .ok (.iload 5, 2) := dk_21 5 (dk_at dksX3_spans_0 20 rfl rfl)
theorem dX3_spans_22 : decode cX3_spans 22 = .ok (.invokevirtual 184, 3) := dk_182 0 184 (dk_at dksX3_spans_1 0 rfl rfl)
theorem dX3_spans_25 : decode cX3_spans 25 = .ok (.iload_n 2, 1) := dk_28 (dk_at dksX3_spans_1 3 rfl rfl)
theorem dX3_spans_26 : decode cX3_spans 26 = .ok (.if_icmp .ne 7, 3) := dk_160 0 7 (dk_at dksX3_spans_1 4 rfl rfl)
theorem dX3_spans_29 : decode cX3_spans 29 = .ok (.iconst 1, 1) := dk_4 (dk_at dksX3_spans_1 7 rfl rfl)
theorem dX3_spans_30 : decode cX3_spans 30 = .ok (.goto 4, 3) := dk_167 0 4 (dk_at dksX3_spans_1 8 rfl rfl)
theorem dX3_spans_33 : decode cX3_spans 33 = .ok (.iconst 0, 1) := dk_3 (dk_at dksX3_spans_1 11 rfl rfl)
theorem dX3_spans_34 : decode cX3_spans 34 = .ok (.istore 7, 2) := dk_54 7 (dk_at dksX3_spans_1 12 rfl rfl)
theorem dX3_spans_36 : decode cX3_spans 36 = .ok (.iload 5, 2) := dk_21 5 (dk_at dksX3_spans_1 14 rfl rfl)
theorem dX3_spans_38 : decode cX3_spans 38 = .ok (.sipush 600, 3) := dk_17 2 88 (dk_at dksX3_spans_1 16 rfl rfl)
theorem dX3_spans_41 : decode cX3_spans 41 = .ok (.if_icmp .ge 26, 3) := dk_162 0 26 (dk_at dksX3_spans_1 19 rfl rfl)
theorem dX3_spans_44 : decode cX3_spans 44 = .ok (.aload_n 0, 1) := dk_42 (dk_at dksX3_spans_1 22 rfl rfl)
theorem dX3_spans_45 : decode cX3_spans 45 = .ok (.iload_n 1, 1) := dk_27 (dk_at dksX3_spans_1 23 rfl rfl)
theorem dX3_spans_46 : decode cX3_spans 46 = .ok (.iload 5, 2) := dk_21 5 (dk_at dksX3_spans_2 0 rfl rfl)
theorem dX3_spans_48 : decode cX3_spans 48 = .ok (.invokevirtual 184, 3) := dk_182 0 184 (dk_at dksX3_spans_2 2 rfl rfl)
theorem dX3_spans_51 : decode cX3_spans 51 = .ok (.aload_n 0, 1) := dk_42 (dk_at dksX3_spans_2 5 rfl rfl)
theorem dX3_spans_52 : decode cX3_spans 52 = .ok (.iload_n 1, 1) := dk_27 (dk_at dksX3_spans_2 6 rfl rfl)
theorem dX3_spans_53 : decode cX3_spans 53 = .ok (.iload 6, 2) := dk_21 6 (dk_at dksX3_spans_2 7 rfl rfl)
theorem dX3_spans_55 : decode cX3_spans 55 = .ok (.invokevirtual 184, 3) := dk_182 0 184 (dk_at dksX3_spans_2 9 rfl rfl)
theorem dX3_spans_58 : decode cX3_spans 58 = .ok (.if_icmp .ne 9, 3) := dk_160 0 9 (dk_at dksX3_spans_2 12 rfl rfl)
theorem dX3_spans_61 : decode cX3_spans 61 = .ok (.iinc 5 1, 3) := dk_132 5 1 (dk_at dksX3_spans_2 15 rfl rfl)
theorem dX3_spans_64 : decode cX3_spans 64 = .ok (.goto (-28), 3) := dk_167 255 228 (dk_at dksX3_spans_2 18 rfl rfl)
theorem dX3_spans_67 : decode cX3_spans 67 = .ok (.iload 7, 2) := dk_21 7 (dk_at dksX3_spans_2 21 rfl rfl)
theorem dX3_spans_69 : decode cX3_spans 69 = .ok (.ifCond .eq 77, 3) := dk_153 0 77 (dk_at dksX3_spans_3 0 rfl rfl)
theorem dX3_spans_72 : decode cX3_spans 72 = .ok (.aload_n 0, 1) := dk_42 (dk_at dksX3_spans_3 3 rfl rfl)
theorem dX3_spans_73 : decode cX3_spans 73 = .ok (.getfield 29, 3) := dk_180 0 29 (dk_at dksX3_spans_3 4 rfl rfl)
theorem dX3_spans_76 : decode cX3_spans 76 = .ok (.iconst 0, 1) := dk_3 (dk_at dksX3_spans_3 7 rfl rfl)
theorem dX3_spans_77 : decode cX3_spans 77 = .ok (.iload 4, 2) := dk_21 4 (dk_at dksX3_spans_3 8 rfl rfl)
theorem dX3_spans_79 : decode cX3_spans 79 = .ok (.iload_n 3, 1) := dk_29 (dk_at dksX3_spans_3 10 rfl rfl)
theorem dX3_spans_80 : decode cX3_spans 80 = .ok (.if_icmp .ne 8, 3) := dk_160 0 8 (dk_at dksX3_spans_3 11 rfl rfl)
theorem dX3_spans_83 : decode cX3_spans 83 = .ok (.iload 6, 2) := dk_21 6 (dk_at dksX3_spans_3 14 rfl rfl)
theorem dX3_spans_85 : decode cX3_spans 85 = .ok (.goto 9, 3) := dk_167 0 9 (dk_at dksX3_spans_3 16 rfl rfl)
theorem dX3_spans_88 : decode cX3_spans 88 = .ok (.aload_n 0, 1) := dk_42 (dk_at dksX3_spans_3 19 rfl rfl)
theorem dX3_spans_89 : decode cX3_spans 89 = .ok (.getfield 29, 3) := dk_180 0 29 (dk_at dksX3_spans_3 20 rfl rfl)
theorem dX3_spans_92 : decode cX3_spans 92 = .ok (.iconst 0, 1) := dk_3 (dk_at dksX3_spans_3 23 rfl rfl)
theorem dX3_spans_93 : decode cX3_spans 93 = .ok (.iaload, 1) := dk_46 (dk_at dksX3_spans_4 0 rfl rfl)
theorem dX3_spans_94 : decode cX3_spans 94 = .ok (.iastore, 1) := dk_79 (dk_at dksX3_spans_4 1 rfl rfl)
theorem dX3_spans_95 : decode cX3_spans 95 = .ok (.aload_n 0, 1) := dk_42 (dk_at dksX3_spans_4 2 rfl rfl)
theorem dX3_spans_96 : decode cX3_spans 96 = .ok (.getfield 29, 3) := dk_180 0 29 (dk_at dksX3_spans_4 3 rfl rfl)
theorem dX3_spans_99 : decode cX3_spans 99 = .ok (.iconst 1, 1) := dk_4 (dk_at dksX3_spans_4 6 rfl rfl)
theorem dX3_spans_100 : decode cX3_spans 100 = .ok (.iload 4, 2) := dk_21 4 (dk_at dksX3_spans_4 7 rfl rfl)
theorem dX3_spans_102 : decode cX3_spans 102 = .ok (.iload_n 3, 1) := dk_29 (dk_at dksX3_spans_4 9 rfl rfl)
theorem dX3_spans_103 : decode cX3_spans 103 = .ok (.if_icmp .ne 8, 3) := dk_160 0 8 (dk_at dksX3_spans_4 10 rfl rfl)
theorem dX3_spans_106 : decode cX3_spans 106 = .ok (.iload 5, 2) := dk_21 5 (dk_at dksX3_spans_4 13 rfl rfl)
theorem dX3_spans_108 : decode cX3_spans 108 = .ok (.goto 9, 3) := dk_167 0 9 (dk_at dksX3_spans_4 15 rfl rfl)
theorem dX3_spans_111 : decode cX3_spans 111 = .ok (.aload_n 0, 1) := dk_42 (dk_at dksX3_spans_4 18 rfl rfl)
theorem dX3_spans_112 : decode cX3_spans 112 = .ok (.getfield 29, 3) := dk_180 0 29 (dk_at dksX3_spans_4 19 rfl rfl)
theorem dX3_spans_115 : decode cX3_spans 115 = .ok (.iconst 1, 1) := dk_4 (dk_at dksX3_spans_4 22 rfl rfl)
theorem dX3_spans_116 : decode cX3_spans 116 = .ok (.iaload, 1) := dk_46 (dk_at dksX3_spans_4 23 rfl rfl)
theorem dX3_spans_117 : decode cX3_spans 117 = .ok (.iastore, 1) := dk_79 (dk_at dksX3_spans_5 0 rfl rfl)
theorem dX3_spans_118 : decode cX3_spans 118 = .ok (.aload_n 0, 1) := dk_42 (dk_at dksX3_spans_5 1 rfl rfl)
theorem dX3_spans_119 : decode cX3_spans 119 = .ok (.iload 4, 2) := dk_21 4 (dk_at dksX3_spans_5 2 rfl rfl)
theorem dX3_spans_121 : decode cX3_spans 121 = .ok (.ifCond .ne 7, 3) := dk_154 0 7 (dk_at dksX3_spans_5 4 rfl rfl)
theorem dX3_spans_124 : decode cX3_spans 124 = .ok (.iconst 0, 1) := dk_3 (dk_at dksX3_spans_5 7 rfl rfl)
theorem dX3_spans_125 : decode cX3_spans 125 = .ok (.goto 7, 3) := dk_167 0 7 (dk_at dksX3_spans_5 8 rfl rfl)
theorem dX3_spans_128 : decode cX3_spans 128 = .ok (.aload_n 0, 1) := dk_42 (dk_at dksX3_spans_5 11 rfl rfl)
theorem dX3_spans_129 : decode cX3_spans 129 = .ok (.getfield 187, 3) := dk_180 0 187 (dk_at dksX3_spans_5 12 rfl rfl)
theorem dX3_spans_132 : decode cX3_spans 132 = .ok (.iload 5, 2) := dk_21 5 (dk_at dksX3_spans_5 15 rfl rfl)
theorem dX3_spans_134 : decode cX3_spans 134 = .ok (.iload 6, 2) := dk_21 6 (dk_at dksX3_spans_5 17 rfl rfl)
theorem dX3_spans_136 : decode cX3_spans 136 = .ok (.isub, 1) := dk_100 (dk_at dksX3_spans_5 19 rfl rfl)
theorem dX3_spans_137 : decode cX3_spans 137 = .ok (.invokestatic 133, 3) := dk_184 0 133 (dk_at dksX3_spans_5 20 rfl rfl)
theorem dX3_spans_140 : decode cX3_spans 140 = .ok (.putfield 187, 3) := dk_181 0 187 (dk_at dksX3_spans_6 0 rfl rfl)
theorem dX3_spans_143 : decode cX3_spans 143 = .ok (.iinc 4 1, 3) := dk_132 4 1 (dk_at dksX3_spans_6 3 rfl rfl)
theorem dX3_spans_146 : decode cX3_spans 146 = .ok (.goto (-140), 3) := dk_167 255 116 (dk_at dksX3_spans_6 6 rfl rfl)
theorem dX3_spans_149 : decode cX3_spans 149 = .ok (.iload 4, 2) := dk_21 4 (dk_at dksX3_spans_6 9 rfl rfl)
theorem dX3_spans_151 : decode cX3_spans 151 = .ok (.ireturn, 1) := dk_172 (dk_at dksX3_spans_6 11 rfl rfl)
abbrev cX3_isLet : ByteArray := prog_16_method_60_code
def yX3_isLet : MethodName := ⟨RX3, "isLet", "(II)Z"⟩
def dkwX3_isLet_0 : List UInt8 := [28, 184, 0, 74, 153, 0, 16, 42, 27, 28, 182, 0, 148, 155, 0, 7, 4, 167, 0, 4, 3, 172]
abbrev dktX3_isLet_0 : List UInt8 := dkwX3_isLet_0 ++ []
theorem dksX3_isLet_0 : cX3_isLet.data.toList.drop 0 = dktX3_isLet_0 := by decide +kernel
theorem dX3_isLet_0 : decode cX3_isLet 0 = .ok (.iload_n 2, 1) := dk_28 (dk_at dksX3_isLet_0 0 rfl rfl)
theorem dX3_isLet_1 : decode cX3_isLet 1 = .ok (.invokestatic 74, 3) := dk_184 0 74 (dk_at dksX3_isLet_0 1 rfl rfl)
theorem dX3_isLet_4 : decode cX3_isLet 4 = .ok (.ifCond .eq 16, 3) := dk_153 0 16 (dk_at dksX3_isLet_0 4 rfl rfl)
theorem dX3_isLet_7 : decode cX3_isLet 7 = .ok (.aload_n 0, 1) := dk_42 (dk_at dksX3_isLet_0 7 rfl rfl)
theorem dX3_isLet_8 : decode cX3_isLet 8 = .ok (.iload_n 1, 1) := dk_27 (dk_at dksX3_isLet_0 8 rfl rfl)
theorem dX3_isLet_9 : decode cX3_isLet 9 = .ok (.iload_n 2, 1) := dk_28 (dk_at dksX3_isLet_0 9 rfl rfl)
theorem dX3_isLet_10 : decode cX3_isLet 10 = .ok (.invokevirtual 148, 3) := dk_182 0 148 (dk_at dksX3_isLet_0 10 rfl rfl)
theorem dX3_isLet_13 : decode cX3_isLet 13 = .ok (.ifCond .lt 7, 3) := dk_155 0 7 (dk_at dksX3_isLet_0 13 rfl rfl)
theorem dX3_isLet_16 : decode cX3_isLet 16 = .ok (.iconst 1, 1) := dk_4 (dk_at dksX3_isLet_0 16 rfl rfl)
theorem dX3_isLet_17 : decode cX3_isLet 17 = .ok (.goto 4, 3) := dk_167 0 4 (dk_at dksX3_isLet_0 17 rfl rfl)
theorem dX3_isLet_20 : decode cX3_isLet 20 = .ok (.iconst 0, 1) := dk_3 (dk_at dksX3_isLet_0 20 rfl rfl)
theorem dX3_isLet_21 : decode cX3_isLet 21 = .ok (.ireturn, 1) := dk_172 (dk_at dksX3_isLet_0 21 rfl rfl)
abbrev cX3_longestGap : ByteArray := prog_16_method_62_code
def yX3_longestGap : MethodName := ⟨RX3, "longestGap", "(I)I"⟩
def dkwX3_longestGap_0 : List UInt8 := [42, 27, 3, 3, 182, 0, 190, 154, 0, 7, 3, 167, 0, 7, 42, 180, 0, 187, 172]
abbrev dktX3_longestGap_0 : List UInt8 := dkwX3_longestGap_0 ++ []
theorem dksX3_longestGap_0 : cX3_longestGap.data.toList.drop 0 = dktX3_longestGap_0 := by decide +kernel
theorem dX3_longestGap_0 : decode cX3_longestGap 0 = .ok (.aload_n 0, 1) := dk_42 (dk_at dksX3_longestGap_0 0 rfl rfl)
theorem dX3_longestGap_1 : decode cX3_longestGap 1 = .ok (.iload_n 1, 1) := dk_27 (dk_at dksX3_longestGap_0 1 rfl rfl)
theorem dX3_longestGap_2 : decode cX3_longestGap 2 = .ok (.iconst 0, 1) := dk_3 (dk_at dksX3_longestGap_0 2 rfl rfl)
theorem dX3_longestGap_3 : decode cX3_longestGap 3 = .ok (.iconst 0, 1) := dk_3 (dk_at dksX3_longestGap_0 3 rfl rfl)
theorem dX3_longestGap_4 : decode cX3_longestGap 4 = .ok (.invokevirtual 190, 3) := dk_182 0 190 (dk_at dksX3_longestGap_0 4 rfl rfl)
theorem dX3_longestGap_7 : decode cX3_longestGap 7 = .ok (.ifCond .ne 7, 3) := dk_154 0 7 (dk_at dksX3_longestGap_0 7 rfl rfl)
theorem dX3_longestGap_10 : decode cX3_longestGap 10 = .ok (.iconst 0, 1) := dk_3 (dk_at dksX3_longestGap_0 10 rfl rfl)
theorem dX3_longestGap_11 : decode cX3_longestGap 11 = .ok (.goto 7, 3) := dk_167 0 7 (dk_at dksX3_longestGap_0 11 rfl rfl)
theorem dX3_longestGap_14 : decode cX3_longestGap 14 = .ok (.aload_n 0, 1) := dk_42 (dk_at dksX3_longestGap_0 14 rfl rfl)
theorem dX3_longestGap_15 : decode cX3_longestGap 15 = .ok (.getfield 187, 3) := dk_180 0 187 (dk_at dksX3_longestGap_0 15 rfl rfl)
theorem dX3_longestGap_18 : decode cX3_longestGap 18 = .ok (.ireturn, 1) := dk_172 (dk_at dksX3_longestGap_0 18 rfl rfl)
abbrev cX3_coinsIn : ByteArray := prog_16_method_63_code
def yX3_coinsIn : MethodName := ⟨RX3, "coinsIn", "(I)I"⟩
def dkwX3_coinsIn_1 : List UInt8 := [160, 0, 11, 42, 29, 182, 0, 121, 167, 0, 4, 3, 96, 61, 132, 3, 1, 167, 255, 221, 28, 172]
abbrev dktX3_coinsIn_1 : List UInt8 := dkwX3_coinsIn_1 ++ []
def dkwX3_coinsIn_0 : List UInt8 := [3, 61, 3, 62, 29, 42, 180, 0, 9, 4, 46, 162, 0, 31, 28, 42, 29, 3, 182, 0, 78, 27]
abbrev dktX3_coinsIn_0 : List UInt8 := dkwX3_coinsIn_0 ++ dktX3_coinsIn_1
theorem dksX3_coinsIn_0 : cX3_coinsIn.data.toList.drop 0 = dktX3_coinsIn_0 := by decide +kernel
theorem dksX3_coinsIn_1 : cX3_coinsIn.data.toList.drop 22 = dktX3_coinsIn_1 := dk_seg dksX3_coinsIn_0 22 rfl rfl
theorem dX3_coinsIn_0 : decode cX3_coinsIn 0 = .ok (.iconst 0, 1) := dk_3 (dk_at dksX3_coinsIn_0 0 rfl rfl)
theorem dX3_coinsIn_1 : decode cX3_coinsIn 1 = .ok (.istore_n 2, 1) := dk_61 (dk_at dksX3_coinsIn_0 1 rfl rfl)
theorem dX3_coinsIn_2 : decode cX3_coinsIn 2 = .ok (.iconst 0, 1) := dk_3 (dk_at dksX3_coinsIn_0 2 rfl rfl)
theorem dX3_coinsIn_3 : decode cX3_coinsIn 3 = .ok (.istore_n 3, 1) := dk_62 (dk_at dksX3_coinsIn_0 3 rfl rfl)
theorem dX3_coinsIn_4 : decode cX3_coinsIn 4 = .ok (.iload_n 3, 1) := dk_29 (dk_at dksX3_coinsIn_0 4 rfl rfl)
theorem dX3_coinsIn_5 : decode cX3_coinsIn 5 = .ok (.aload_n 0, 1) := dk_42 (dk_at dksX3_coinsIn_0 5 rfl rfl)
theorem dX3_coinsIn_6 : decode cX3_coinsIn 6 = .ok (.getfield 9, 3) := dk_180 0 9 (dk_at dksX3_coinsIn_0 6 rfl rfl)
theorem dX3_coinsIn_9 : decode cX3_coinsIn 9 = .ok (.iconst 1, 1) := dk_4 (dk_at dksX3_coinsIn_0 9 rfl rfl)
theorem dX3_coinsIn_10 : decode cX3_coinsIn 10 = .ok (.iaload, 1) := dk_46 (dk_at dksX3_coinsIn_0 10 rfl rfl)
theorem dX3_coinsIn_11 : decode cX3_coinsIn 11 = .ok (.if_icmp .ge 31, 3) := dk_162 0 31 (dk_at dksX3_coinsIn_0 11 rfl rfl)
theorem dX3_coinsIn_14 : decode cX3_coinsIn 14 = .ok (.iload_n 2, 1) := dk_28 (dk_at dksX3_coinsIn_0 14 rfl rfl)
theorem dX3_coinsIn_15 : decode cX3_coinsIn 15 = .ok (.aload_n 0, 1) := dk_42 (dk_at dksX3_coinsIn_0 15 rfl rfl)
theorem dX3_coinsIn_16 : decode cX3_coinsIn 16 = .ok (.iload_n 3, 1) := dk_29 (dk_at dksX3_coinsIn_0 16 rfl rfl)
theorem dX3_coinsIn_17 : decode cX3_coinsIn 17 = .ok (.iconst 0, 1) := dk_3 (dk_at dksX3_coinsIn_0 17 rfl rfl)
theorem dX3_coinsIn_18 : decode cX3_coinsIn 18 = .ok (.invokevirtual 78, 3) := dk_182 0 78 (dk_at dksX3_coinsIn_0 18 rfl rfl)
theorem dX3_coinsIn_21 : decode cX3_coinsIn 21 = .ok (.iload_n 1, 1) := dk_27 (dk_at dksX3_coinsIn_0 21 rfl rfl)
theorem dX3_coinsIn_22 : decode cX3_coinsIn 22 = .ok (.if_icmp .ne 11, 3) := dk_160 0 11 (dk_at dksX3_coinsIn_1 0 rfl rfl)
theorem dX3_coinsIn_25 : decode cX3_coinsIn 25 = .ok (.aload_n 0, 1) := dk_42 (dk_at dksX3_coinsIn_1 3 rfl rfl)
theorem dX3_coinsIn_26 : decode cX3_coinsIn 26 = .ok (.iload_n 3, 1) := dk_29 (dk_at dksX3_coinsIn_1 4 rfl rfl)
theorem dX3_coinsIn_27 : decode cX3_coinsIn 27 = .ok (.invokevirtual 121, 3) := dk_182 0 121 (dk_at dksX3_coinsIn_1 5 rfl rfl)
theorem dX3_coinsIn_30 : decode cX3_coinsIn 30 = .ok (.goto 4, 3) := dk_167 0 4 (dk_at dksX3_coinsIn_1 8 rfl rfl)
theorem dX3_coinsIn_33 : decode cX3_coinsIn 33 = .ok (.iconst 0, 1) := dk_3 (dk_at dksX3_coinsIn_1 11 rfl rfl)
theorem dX3_coinsIn_34 : decode cX3_coinsIn 34 = .ok (.iadd, 1) := dk_96 (dk_at dksX3_coinsIn_1 12 rfl rfl)
theorem dX3_coinsIn_35 : decode cX3_coinsIn 35 = .ok (.istore_n 2, 1) := dk_61 (dk_at dksX3_coinsIn_1 13 rfl rfl)
theorem dX3_coinsIn_36 : decode cX3_coinsIn 36 = .ok (.iinc 3 1, 3) := dk_132 3 1 (dk_at dksX3_coinsIn_1 14 rfl rfl)
theorem dX3_coinsIn_39 : decode cX3_coinsIn 39 = .ok (.goto (-35), 3) := dk_167 255 221 (dk_at dksX3_coinsIn_1 17 rfl rfl)
theorem dX3_coinsIn_42 : decode cX3_coinsIn 42 = .ok (.iload_n 2, 1) := dk_28 (dk_at dksX3_coinsIn_1 20 rfl rfl)
theorem dX3_coinsIn_43 : decode cX3_coinsIn 43 = .ok (.ireturn, 1) := dk_172 (dk_at dksX3_coinsIn_1 21 rfl rfl)
abbrev cX3_span : ByteArray := prog_16_method_67_code
def yX3_span : MethodName := ⟨RX3, "span", "(IIZ)I"⟩
def dkwX3_span_0 : List UInt8 := [42, 27, 4, 28, 29, 182, 0, 206, 172]
abbrev dktX3_span_0 : List UInt8 := dkwX3_span_0 ++ []
theorem dksX3_span_0 : cX3_span.data.toList.drop 0 = dktX3_span_0 := by decide +kernel
theorem dX3_span_0 : decode cX3_span 0 = .ok (.aload_n 0, 1) := dk_42 (dk_at dksX3_span_0 0 rfl rfl)
theorem dX3_span_1 : decode cX3_span 1 = .ok (.iload_n 1, 1) := dk_27 (dk_at dksX3_span_0 1 rfl rfl)
theorem dX3_span_2 : decode cX3_span 2 = .ok (.iconst 1, 1) := dk_4 (dk_at dksX3_span_0 2 rfl rfl)
theorem dX3_span_3 : decode cX3_span 3 = .ok (.iload_n 2, 1) := dk_28 (dk_at dksX3_span_0 3 rfl rfl)
theorem dX3_span_4 : decode cX3_span 4 = .ok (.iload_n 3, 1) := dk_29 (dk_at dksX3_span_0 4 rfl rfl)
theorem dX3_span_5 : decode cX3_span 5 = .ok (.invokevirtual 206, 3) := dk_182 0 206 (dk_at dksX3_span_0 5 rfl rfl)
theorem dX3_span_8 : decode cX3_span 8 = .ok (.ireturn, 1) := dk_172 (dk_at dksX3_span_0 8 rfl rfl)
abbrev cX3_endOf : ByteArray := prog_16_method_66_code
def yX3_endOf : MethodName := ⟨RX3, "endOf", "(IZIZ)I"⟩
def dkwX3_endOf_2 : List UInt8 := [153, 0, 5, 3, 172, 42, 180, 0, 29, 21, 4, 153, 0, 7, 4, 167, 0, 4, 3, 46, 172]
abbrev dktX3_endOf_2 : List UInt8 := dkwX3_endOf_2 ++ []
def dkwX3_endOf_1 : List UInt8 := [42, 27, 28, 29, 182, 0, 190, 4, 100, 184, 0, 70, 154, 0, 7, 4, 167, 0, 4, 3, 5, 182, 0, 91]
abbrev dktX3_endOf_1 : List UInt8 := dkwX3_endOf_1 ++ dktX3_endOf_2
def dkwX3_endOf_0 : List UInt8 := [42, 42, 27, 182, 0, 109, 154, 0, 7, 4, 167, 0, 4, 3, 4, 182, 0, 91, 154, 0, 33, 42, 29, 3]
abbrev dktX3_endOf_0 : List UInt8 := dkwX3_endOf_0 ++ dktX3_endOf_1
theorem dksX3_endOf_0 : cX3_endOf.data.toList.drop 0 = dktX3_endOf_0 := by decide +kernel
theorem dksX3_endOf_1 : cX3_endOf.data.toList.drop 24 = dktX3_endOf_1 := dk_seg dksX3_endOf_0 24 rfl rfl
theorem dksX3_endOf_2 : cX3_endOf.data.toList.drop 48 = dktX3_endOf_2 := dk_seg dksX3_endOf_1 24 rfl rfl
theorem dX3_endOf_0 : decode cX3_endOf 0 = .ok (.aload_n 0, 1) := dk_42 (dk_at dksX3_endOf_0 0 rfl rfl)
theorem dX3_endOf_1 : decode cX3_endOf 1 = .ok (.aload_n 0, 1) := dk_42 (dk_at dksX3_endOf_0 1 rfl rfl)
theorem dX3_endOf_2 : decode cX3_endOf 2 = .ok (.iload_n 1, 1) := dk_27 (dk_at dksX3_endOf_0 2 rfl rfl)
theorem dX3_endOf_3 : decode cX3_endOf 3 = .ok (.invokevirtual 109, 3) := dk_182 0 109 (dk_at dksX3_endOf_0 3 rfl rfl)
theorem dX3_endOf_6 : decode cX3_endOf 6 = .ok (.ifCond .ne 7, 3) := dk_154 0 7 (dk_at dksX3_endOf_0 6 rfl rfl)
theorem dX3_endOf_9 : decode cX3_endOf 9 = .ok (.iconst 1, 1) := dk_4 (dk_at dksX3_endOf_0 9 rfl rfl)
theorem dX3_endOf_10 : decode cX3_endOf 10 = .ok (.goto 4, 3) := dk_167 0 4 (dk_at dksX3_endOf_0 10 rfl rfl)
theorem dX3_endOf_13 : decode cX3_endOf 13 = .ok (.iconst 0, 1) := dk_3 (dk_at dksX3_endOf_0 13 rfl rfl)
theorem dX3_endOf_14 : decode cX3_endOf 14 = .ok (.iconst 1, 1) := dk_4 (dk_at dksX3_endOf_0 14 rfl rfl)
theorem dX3_endOf_15 : decode cX3_endOf 15 = .ok (.invokevirtual 91, 3) := dk_182 0 91 (dk_at dksX3_endOf_0 15 rfl rfl)
theorem dX3_endOf_18 : decode cX3_endOf 18 = .ok (.ifCond .ne 33, 3) := dk_154 0 33 (dk_at dksX3_endOf_0 18 rfl rfl)
theorem dX3_endOf_21 : decode cX3_endOf 21 = .ok (.aload_n 0, 1) := dk_42 (dk_at dksX3_endOf_0 21 rfl rfl)
theorem dX3_endOf_22 : decode cX3_endOf 22 = .ok (.iload_n 3, 1) := dk_29 (dk_at dksX3_endOf_0 22 rfl rfl)
theorem dX3_endOf_23 : decode cX3_endOf 23 = .ok (.iconst 0, 1) := dk_3 (dk_at dksX3_endOf_0 23 rfl rfl)
theorem dX3_endOf_24 : decode cX3_endOf 24 = .ok (.aload_n 0, 1) := dk_42 (dk_at dksX3_endOf_1 0 rfl rfl)
theorem dX3_endOf_25 : decode cX3_endOf 25 = .ok (.iload_n 1, 1) := dk_27 (dk_at dksX3_endOf_1 1 rfl rfl)
theorem dX3_endOf_26 : decode cX3_endOf 26 = .ok (.iload_n 2, 1) := dk_28 (dk_at dksX3_endOf_1 2 rfl rfl)
theorem dX3_endOf_27 : decode cX3_endOf 27 = .ok (.iload_n 3, 1) := dk_29 (dk_at dksX3_endOf_1 3 rfl rfl)
theorem dX3_endOf_28 : decode cX3_endOf 28 = .ok (.invokevirtual 190, 3) := dk_182 0 190 (dk_at dksX3_endOf_1 4 rfl rfl)
theorem dX3_endOf_31 : decode cX3_endOf 31 = .ok (.iconst 1, 1) := dk_4 (dk_at dksX3_endOf_1 7 rfl rfl)
theorem dX3_endOf_32 : decode cX3_endOf 32 = .ok (.isub, 1) := dk_100 (dk_at dksX3_endOf_1 8 rfl rfl)
theorem dX3_endOf_33 : decode cX3_endOf 33 = .ok (.invokestatic 70, 3) := dk_184 0 70 (dk_at dksX3_endOf_1 9 rfl rfl)
theorem dX3_endOf_36 : decode cX3_endOf 36 = .ok (.ifCond .ne 7, 3) := dk_154 0 7 (dk_at dksX3_endOf_1 12 rfl rfl)
theorem dX3_endOf_39 : decode cX3_endOf 39 = .ok (.iconst 1, 1) := dk_4 (dk_at dksX3_endOf_1 15 rfl rfl)
theorem dX3_endOf_40 : decode cX3_endOf 40 = .ok (.goto 4, 3) := dk_167 0 4 (dk_at dksX3_endOf_1 16 rfl rfl)
theorem dX3_endOf_43 : decode cX3_endOf 43 = .ok (.iconst 0, 1) := dk_3 (dk_at dksX3_endOf_1 19 rfl rfl)
theorem dX3_endOf_44 : decode cX3_endOf 44 = .ok (.iconst 2, 1) := dk_5 (dk_at dksX3_endOf_1 20 rfl rfl)
theorem dX3_endOf_45 : decode cX3_endOf 45 = .ok (.invokevirtual 91, 3) := dk_182 0 91 (dk_at dksX3_endOf_1 21 rfl rfl)
theorem dX3_endOf_48 : decode cX3_endOf 48 = .ok (.ifCond .eq 5, 3) := dk_153 0 5 (dk_at dksX3_endOf_2 0 rfl rfl)
theorem dX3_endOf_51 : decode cX3_endOf 51 = .ok (.iconst 0, 1) := dk_3 (dk_at dksX3_endOf_2 3 rfl rfl)
theorem dX3_endOf_52 : decode cX3_endOf 52 = .ok (.ireturn, 1) := dk_172 (dk_at dksX3_endOf_2 4 rfl rfl)
theorem dX3_endOf_53 : decode cX3_endOf 53 = .ok (.aload_n 0, 1) := dk_42 (dk_at dksX3_endOf_2 5 rfl rfl)
theorem dX3_endOf_54 : decode cX3_endOf 54 = .ok (.getfield 29, 3) := dk_180 0 29 (dk_at dksX3_endOf_2 6 rfl rfl)
theorem dX3_endOf_57 : decode cX3_endOf 57 = .ok (.iload 4, 2) := dk_21 4 (dk_at dksX3_endOf_2 9 rfl rfl)
theorem dX3_endOf_59 : decode cX3_endOf 59 = .ok (.ifCond .eq 7, 3) := dk_153 0 7 (dk_at dksX3_endOf_2 11 rfl rfl)
theorem dX3_endOf_62 : decode cX3_endOf 62 = .ok (.iconst 1, 1) := dk_4 (dk_at dksX3_endOf_2 14 rfl rfl)
theorem dX3_endOf_63 : decode cX3_endOf 63 = .ok (.goto 4, 3) := dk_167 0 4 (dk_at dksX3_endOf_2 15 rfl rfl)
theorem dX3_endOf_66 : decode cX3_endOf 66 = .ok (.iconst 0, 1) := dk_3 (dk_at dksX3_endOf_2 18 rfl rfl)
theorem dX3_endOf_67 : decode cX3_endOf 67 = .ok (.iaload, 1) := dk_46 (dk_at dksX3_endOf_2 19 rfl rfl)
theorem dX3_endOf_68 : decode cX3_endOf 68 = .ok (.ireturn, 1) := dk_172 (dk_at dksX3_endOf_2 20 rfl rfl)
abbrev cX3_gap : ByteArray := prog_16_method_68_code
def yX3_gap : MethodName := ⟨RX3, "gap", "(IIZ)I"⟩
def dkwX3_gap_0 : List UInt8 := [42, 27, 3, 28, 29, 182, 0, 206, 172]
abbrev dktX3_gap_0 : List UInt8 := dkwX3_gap_0 ++ []
theorem dksX3_gap_0 : cX3_gap.data.toList.drop 0 = dktX3_gap_0 := by decide +kernel
theorem dX3_gap_0 : decode cX3_gap 0 = .ok (.aload_n 0, 1) := dk_42 (dk_at dksX3_gap_0 0 rfl rfl)
theorem dX3_gap_1 : decode cX3_gap 1 = .ok (.iload_n 1, 1) := dk_27 (dk_at dksX3_gap_0 1 rfl rfl)
theorem dX3_gap_2 : decode cX3_gap 2 = .ok (.iconst 0, 1) := dk_3 (dk_at dksX3_gap_0 2 rfl rfl)
theorem dX3_gap_3 : decode cX3_gap 3 = .ok (.iload_n 2, 1) := dk_28 (dk_at dksX3_gap_0 3 rfl rfl)
theorem dX3_gap_4 : decode cX3_gap 4 = .ok (.iload_n 3, 1) := dk_29 (dk_at dksX3_gap_0 4 rfl rfl)
theorem dX3_gap_5 : decode cX3_gap 5 = .ok (.invokevirtual 206, 3) := dk_182 0 206 (dk_at dksX3_gap_0 5 rfl rfl)
theorem dX3_gap_8 : decode cX3_gap 8 = .ok (.ireturn, 1) := dk_172 (dk_at dksX3_gap_0 8 rfl rfl)
abbrev cX3_fits : ByteArray := prog_16_method_69_code
def yX3_fits : MethodName := ⟨RX3, "fits", "(II)I"⟩
def dkwX3_fits_3 : List UInt8 := [132, 3, 1, 167, 255, 230, 42, 6, 181, 0, 41, 3, 172]
abbrev dktX3_fits_3 : List UInt8 := dkwX3_fits_3 ++ []
def dkwX3_fits_2 : List UInt8 := [62, 29, 28, 96, 17, 2, 88, 163, 0, 23, 42, 27, 29, 29, 28, 96, 182, 0, 181, 154, 0, 5, 29, 172]
abbrev dktX3_fits_2 : List UInt8 := dkwX3_fits_2 ++ dktX3_fits_3
def dkwX3_fits_1 : List UInt8 := [17, 2, 88, 184, 0, 70, 154, 0, 7, 4, 167, 0, 4, 3, 5, 182, 0, 91, 153, 0, 5, 3, 172, 3]
abbrev dktX3_fits_1 : List UInt8 := dkwX3_fits_1 ++ dktX3_fits_2
def dkwX3_fits_0 : List UInt8 := [42, 42, 27, 182, 0, 109, 154, 0, 7, 4, 167, 0, 4, 3, 4, 182, 0, 91, 154, 0, 27, 42, 28, 4]
abbrev dktX3_fits_0 : List UInt8 := dkwX3_fits_0 ++ dktX3_fits_1
theorem dksX3_fits_0 : cX3_fits.data.toList.drop 0 = dktX3_fits_0 := by decide +kernel
theorem dksX3_fits_1 : cX3_fits.data.toList.drop 24 = dktX3_fits_1 := dk_seg dksX3_fits_0 24 rfl rfl
theorem dksX3_fits_2 : cX3_fits.data.toList.drop 48 = dktX3_fits_2 := dk_seg dksX3_fits_1 24 rfl rfl
theorem dksX3_fits_3 : cX3_fits.data.toList.drop 72 = dktX3_fits_3 := dk_seg dksX3_fits_2 24 rfl rfl
theorem dX3_fits_0 : decode cX3_fits 0 = .ok (.aload_n 0, 1) := dk_42 (dk_at dksX3_fits_0 0 rfl rfl)
theorem dX3_fits_1 : decode cX3_fits 1 = .ok (.aload_n 0, 1) := dk_42 (dk_at dksX3_fits_0 1 rfl rfl)
theorem dX3_fits_2 : decode cX3_fits 2 = .ok (.iload_n 1, 1) := dk_27 (dk_at dksX3_fits_0 2 rfl rfl)
theorem dX3_fits_3 : decode cX3_fits 3 = .ok (.invokevirtual 109, 3) := dk_182 0 109 (dk_at dksX3_fits_0 3 rfl rfl)
theorem dX3_fits_6 : decode cX3_fits 6 = .ok (.ifCond .ne 7, 3) := dk_154 0 7 (dk_at dksX3_fits_0 6 rfl rfl)
theorem dX3_fits_9 : decode cX3_fits 9 = .ok (.iconst 1, 1) := dk_4 (dk_at dksX3_fits_0 9 rfl rfl)
theorem dX3_fits_10 : decode cX3_fits 10 = .ok (.goto 4, 3) := dk_167 0 4 (dk_at dksX3_fits_0 10 rfl rfl)
theorem dX3_fits_13 : decode cX3_fits 13 = .ok (.iconst 0, 1) := dk_3 (dk_at dksX3_fits_0 13 rfl rfl)
theorem dX3_fits_14 : decode cX3_fits 14 = .ok (.iconst 1, 1) := dk_4 (dk_at dksX3_fits_0 14 rfl rfl)
theorem dX3_fits_15 : decode cX3_fits 15 = .ok (.invokevirtual 91, 3) := dk_182 0 91 (dk_at dksX3_fits_0 15 rfl rfl)
theorem dX3_fits_18 : decode cX3_fits 18 = .ok (.ifCond .ne 27, 3) := dk_154 0 27 (dk_at dksX3_fits_0 18 rfl rfl)
theorem dX3_fits_21 : decode cX3_fits 21 = .ok (.aload_n 0, 1) := dk_42 (dk_at dksX3_fits_0 21 rfl rfl)
theorem dX3_fits_22 : decode cX3_fits 22 = .ok (.iload_n 2, 1) := dk_28 (dk_at dksX3_fits_0 22 rfl rfl)
theorem dX3_fits_23 : decode cX3_fits 23 = .ok (.iconst 1, 1) := dk_4 (dk_at dksX3_fits_0 23 rfl rfl)
theorem dX3_fits_24 : decode cX3_fits 24 = .ok (.sipush 600, 3) := dk_17 2 88 (dk_at dksX3_fits_1 0 rfl rfl)
theorem dX3_fits_27 : decode cX3_fits 27 = .ok (.invokestatic 70, 3) := dk_184 0 70 (dk_at dksX3_fits_1 3 rfl rfl)
theorem dX3_fits_30 : decode cX3_fits 30 = .ok (.ifCond .ne 7, 3) := dk_154 0 7 (dk_at dksX3_fits_1 6 rfl rfl)
theorem dX3_fits_33 : decode cX3_fits 33 = .ok (.iconst 1, 1) := dk_4 (dk_at dksX3_fits_1 9 rfl rfl)
theorem dX3_fits_34 : decode cX3_fits 34 = .ok (.goto 4, 3) := dk_167 0 4 (dk_at dksX3_fits_1 10 rfl rfl)
theorem dX3_fits_37 : decode cX3_fits 37 = .ok (.iconst 0, 1) := dk_3 (dk_at dksX3_fits_1 13 rfl rfl)
theorem dX3_fits_38 : decode cX3_fits 38 = .ok (.iconst 2, 1) := dk_5 (dk_at dksX3_fits_1 14 rfl rfl)
theorem dX3_fits_39 : decode cX3_fits 39 = .ok (.invokevirtual 91, 3) := dk_182 0 91 (dk_at dksX3_fits_1 15 rfl rfl)
theorem dX3_fits_42 : decode cX3_fits 42 = .ok (.ifCond .eq 5, 3) := dk_153 0 5 (dk_at dksX3_fits_1 18 rfl rfl)
theorem dX3_fits_45 : decode cX3_fits 45 = .ok (.iconst 0, 1) := dk_3 (dk_at dksX3_fits_1 21 rfl rfl)
theorem dX3_fits_46 : decode cX3_fits 46 = .ok (.ireturn, 1) := dk_172 (dk_at dksX3_fits_1 22 rfl rfl)
theorem dX3_fits_47 : decode cX3_fits 47 = .ok (.iconst 0, 1) := dk_3 (dk_at dksX3_fits_1 23 rfl rfl)
theorem dX3_fits_48 : decode cX3_fits 48 = .ok (.istore_n 3, 1) := dk_62 (dk_at dksX3_fits_2 0 rfl rfl)
theorem dX3_fits_49 : decode cX3_fits 49 = .ok (.iload_n 3, 1) := dk_29 (dk_at dksX3_fits_2 1 rfl rfl)
theorem dX3_fits_50 : decode cX3_fits 50 = .ok (.iload_n 2, 1) := dk_28 (dk_at dksX3_fits_2 2 rfl rfl)
theorem dX3_fits_51 : decode cX3_fits 51 = .ok (.iadd, 1) := dk_96 (dk_at dksX3_fits_2 3 rfl rfl)
theorem dX3_fits_52 : decode cX3_fits 52 = .ok (.sipush 600, 3) := dk_17 2 88 (dk_at dksX3_fits_2 4 rfl rfl)
theorem dX3_fits_55 : decode cX3_fits 55 = .ok (.if_icmp .gt 23, 3) := dk_163 0 23 (dk_at dksX3_fits_2 7 rfl rfl)
theorem dX3_fits_58 : decode cX3_fits 58 = .ok (.aload_n 0, 1) := dk_42 (dk_at dksX3_fits_2 10 rfl rfl)
theorem dX3_fits_59 : decode cX3_fits 59 = .ok (.iload_n 1, 1) := dk_27 (dk_at dksX3_fits_2 11 rfl rfl)
theorem dX3_fits_60 : decode cX3_fits 60 = .ok (.iload_n 3, 1) := dk_29 (dk_at dksX3_fits_2 12 rfl rfl)
theorem dX3_fits_61 : decode cX3_fits 61 = .ok (.iload_n 3, 1) := dk_29 (dk_at dksX3_fits_2 13 rfl rfl)
theorem dX3_fits_62 : decode cX3_fits 62 = .ok (.iload_n 2, 1) := dk_28 (dk_at dksX3_fits_2 14 rfl rfl)
theorem dX3_fits_63 : decode cX3_fits 63 = .ok (.iadd, 1) := dk_96 (dk_at dksX3_fits_2 15 rfl rfl)
theorem dX3_fits_64 : decode cX3_fits 64 = .ok (.invokevirtual 181, 3) := dk_182 0 181 (dk_at dksX3_fits_2 16 rfl rfl)
theorem dX3_fits_67 : decode cX3_fits 67 = .ok (.ifCond .ne 5, 3) := dk_154 0 5 (dk_at dksX3_fits_2 19 rfl rfl)
theorem dX3_fits_70 : decode cX3_fits 70 = .ok (.iload_n 3, 1) := dk_29 (dk_at dksX3_fits_2 22 rfl rfl)
theorem dX3_fits_71 : decode cX3_fits 71 = .ok (.ireturn, 1) := dk_172 (dk_at dksX3_fits_2 23 rfl rfl)
theorem dX3_fits_72 : decode cX3_fits 72 = .ok (.iinc 3 1, 3) := dk_132 3 1 (dk_at dksX3_fits_3 0 rfl rfl)
theorem dX3_fits_75 : decode cX3_fits 75 = .ok (.goto (-26), 3) := dk_167 255 230 (dk_at dksX3_fits_3 3 rfl rfl)
theorem dX3_fits_78 : decode cX3_fits 78 = .ok (.aload_n 0, 1) := dk_42 (dk_at dksX3_fits_3 6 rfl rfl)
theorem dX3_fits_79 : decode cX3_fits 79 = .ok (.iconst 3, 1) := dk_6 (dk_at dksX3_fits_3 7 rfl rfl)
theorem dX3_fits_80 : decode cX3_fits 80 = .ok (.putfield 41, 3) := dk_181 0 41 (dk_at dksX3_fits_3 8 rfl rfl)
theorem dX3_fits_83 : decode cX3_fits 83 = .ok (.iconst 0, 1) := dk_3 (dk_at dksX3_fits_3 11 rfl rfl)
theorem dX3_fits_84 : decode cX3_fits 84 = .ok (.ireturn, 1) := dk_172 (dk_at dksX3_fits_3 12 rfl rfl)
abbrev cX3_roomFor : ByteArray := prog_16_method_70_code
def yX3_roomFor : MethodName := ⟨RX3, "roomFor", "(III)I"⟩
def dkwX3_roomFor_2 : List UInt8 := [153, 0, 7, 3, 167, 0, 5, 21, 4, 172]
abbrev dktX3_roomFor_2 : List UInt8 := dkwX3_roomFor_2 ++ []
def dkwX3_roomFor_1 : List UInt8 := [42, 27, 28, 29, 182, 0, 174, 54, 4, 42, 21, 4, 156, 0, 7, 4, 167, 0, 4, 3, 5, 182, 0, 91]
abbrev dktX3_roomFor_1 : List UInt8 := dkwX3_roomFor_1 ++ dktX3_roomFor_2
def dkwX3_roomFor_0 : List UInt8 := [42, 27, 28, 29, 184, 0, 112, 154, 0, 7, 4, 167, 0, 4, 3, 4, 182, 0, 91, 153, 0, 5, 3, 172]
abbrev dktX3_roomFor_0 : List UInt8 := dkwX3_roomFor_0 ++ dktX3_roomFor_1
theorem dksX3_roomFor_0 : cX3_roomFor.data.toList.drop 0 = dktX3_roomFor_0 := by decide +kernel
theorem dksX3_roomFor_1 : cX3_roomFor.data.toList.drop 24 = dktX3_roomFor_1 := dk_seg dksX3_roomFor_0 24 rfl rfl
theorem dksX3_roomFor_2 : cX3_roomFor.data.toList.drop 48 = dktX3_roomFor_2 := dk_seg dksX3_roomFor_1 24 rfl rfl
theorem dX3_roomFor_0 : decode cX3_roomFor 0 = .ok (.aload_n 0, 1) := dk_42 (dk_at dksX3_roomFor_0 0 rfl rfl)
theorem dX3_roomFor_1 : decode cX3_roomFor 1 = .ok (.iload_n 1, 1) := dk_27 (dk_at dksX3_roomFor_0 1 rfl rfl)
theorem dX3_roomFor_2 : decode cX3_roomFor 2 = .ok (.iload_n 2, 1) := dk_28 (dk_at dksX3_roomFor_0 2 rfl rfl)
theorem dX3_roomFor_3 : decode cX3_roomFor 3 = .ok (.iload_n 3, 1) := dk_29 (dk_at dksX3_roomFor_0 3 rfl rfl)
theorem dX3_roomFor_4 : decode cX3_roomFor 4 = .ok (.invokestatic 112, 3) := dk_184 0 112 (dk_at dksX3_roomFor_0 4 rfl rfl)
theorem dX3_roomFor_7 : decode cX3_roomFor 7 = .ok (.ifCond .ne 7, 3) := dk_154 0 7 (dk_at dksX3_roomFor_0 7 rfl rfl)
theorem dX3_roomFor_10 : decode cX3_roomFor 10 = .ok (.iconst 1, 1) := dk_4 (dk_at dksX3_roomFor_0 10 rfl rfl)
theorem dX3_roomFor_11 : decode cX3_roomFor 11 = .ok (.goto 4, 3) := dk_167 0 4 (dk_at dksX3_roomFor_0 11 rfl rfl)
theorem dX3_roomFor_14 : decode cX3_roomFor 14 = .ok (.iconst 0, 1) := dk_3 (dk_at dksX3_roomFor_0 14 rfl rfl)
theorem dX3_roomFor_15 : decode cX3_roomFor 15 = .ok (.iconst 1, 1) := dk_4 (dk_at dksX3_roomFor_0 15 rfl rfl)
theorem dX3_roomFor_16 : decode cX3_roomFor 16 = .ok (.invokevirtual 91, 3) := dk_182 0 91 (dk_at dksX3_roomFor_0 16 rfl rfl)
theorem dX3_roomFor_19 : decode cX3_roomFor 19 = .ok (.ifCond .eq 5, 3) := dk_153 0 5 (dk_at dksX3_roomFor_0 19 rfl rfl)
theorem dX3_roomFor_22 : decode cX3_roomFor 22 = .ok (.iconst 0, 1) := dk_3 (dk_at dksX3_roomFor_0 22 rfl rfl)
theorem dX3_roomFor_23 : decode cX3_roomFor 23 = .ok (.ireturn, 1) := dk_172 (dk_at dksX3_roomFor_0 23 rfl rfl)
theorem dX3_roomFor_24 : decode cX3_roomFor 24 = .ok (.aload_n 0, 1) := dk_42 (dk_at dksX3_roomFor_1 0 rfl rfl)
theorem dX3_roomFor_25 : decode cX3_roomFor 25 = .ok (.iload_n 1, 1) := dk_27 (dk_at dksX3_roomFor_1 1 rfl rfl)
theorem dX3_roomFor_26 : decode cX3_roomFor 26 = .ok (.iload_n 2, 1) := dk_28 (dk_at dksX3_roomFor_1 2 rfl rfl)
theorem dX3_roomFor_27 : decode cX3_roomFor 27 = .ok (.iload_n 3, 1) := dk_29 (dk_at dksX3_roomFor_1 3 rfl rfl)
theorem dX3_roomFor_28 : decode cX3_roomFor 28 = .ok (.invokevirtual 174, 3) := dk_182 0 174 (dk_at dksX3_roomFor_1 4 rfl rfl)
theorem dX3_roomFor_31 : decode cX3_roomFor 31 = .ok (.istore 4, 2) := dk_54 4 (dk_at dksX3_roomFor_1 7 rfl rfl)
theorem dX3_roomFor_33 : decode cX3_roomFor 33 = .ok (.aload_n 0, 1) := dk_42 (dk_at dksX3_roomFor_1 9 rfl rfl)
theorem dX3_roomFor_34 : decode cX3_roomFor 34 = .ok (.iload 4, 2) := dk_21 4 (dk_at dksX3_roomFor_1 10 rfl rfl)
theorem dX3_roomFor_36 : decode cX3_roomFor 36 = .ok (.ifCond .ge 7, 3) := dk_156 0 7 (dk_at dksX3_roomFor_1 12 rfl rfl)
theorem dX3_roomFor_39 : decode cX3_roomFor 39 = .ok (.iconst 1, 1) := dk_4 (dk_at dksX3_roomFor_1 15 rfl rfl)
theorem dX3_roomFor_40 : decode cX3_roomFor 40 = .ok (.goto 4, 3) := dk_167 0 4 (dk_at dksX3_roomFor_1 16 rfl rfl)
theorem dX3_roomFor_43 : decode cX3_roomFor 43 = .ok (.iconst 0, 1) := dk_3 (dk_at dksX3_roomFor_1 19 rfl rfl)
theorem dX3_roomFor_44 : decode cX3_roomFor 44 = .ok (.iconst 2, 1) := dk_5 (dk_at dksX3_roomFor_1 20 rfl rfl)
theorem dX3_roomFor_45 : decode cX3_roomFor 45 = .ok (.invokevirtual 91, 3) := dk_182 0 91 (dk_at dksX3_roomFor_1 21 rfl rfl)
theorem dX3_roomFor_48 : decode cX3_roomFor 48 = .ok (.ifCond .eq 7, 3) := dk_153 0 7 (dk_at dksX3_roomFor_2 0 rfl rfl)
theorem dX3_roomFor_51 : decode cX3_roomFor 51 = .ok (.iconst 0, 1) := dk_3 (dk_at dksX3_roomFor_2 3 rfl rfl)
theorem dX3_roomFor_52 : decode cX3_roomFor 52 = .ok (.goto 5, 3) := dk_167 0 5 (dk_at dksX3_roomFor_2 4 rfl rfl)
theorem dX3_roomFor_55 : decode cX3_roomFor 55 = .ok (.iload 4, 2) := dk_21 4 (dk_at dksX3_roomFor_2 7 rfl rfl)
theorem dX3_roomFor_57 : decode cX3_roomFor 57 = .ok (.ireturn, 1) := dk_172 (dk_at dksX3_roomFor_2 9 rfl rfl)
abbrev cX3_hour : ByteArray := prog_16_method_72_code
def yX3_hour : MethodName := ⟨RX3, "hour", "(II)I"⟩
def dkwX3_hour_2 : List UInt8 := [28, 104, 16, 60, 28, 104, 16, 60, 96, 182, 0, 181, 172]
abbrev dktX3_hour_2 : List UInt8 := dkwX3_hour_2 ++ []
def dkwX3_hour_1 : List UInt8 := [184, 0, 210, 154, 0, 7, 4, 167, 0, 4, 3, 5, 182, 0, 91, 153, 0, 5, 3, 172, 42, 27, 16, 60]
abbrev dktX3_hour_1 : List UInt8 := dkwX3_hour_1 ++ dktX3_hour_2
def dkwX3_hour_0 : List UInt8 := [42, 42, 27, 182, 0, 109, 154, 0, 7, 4, 167, 0, 4, 3, 4, 182, 0, 91, 154, 0, 23, 42, 28]
abbrev dktX3_hour_0 : List UInt8 := dkwX3_hour_0 ++ dktX3_hour_1
theorem dksX3_hour_0 : cX3_hour.data.toList.drop 0 = dktX3_hour_0 := by decide +kernel
theorem dksX3_hour_1 : cX3_hour.data.toList.drop 23 = dktX3_hour_1 := dk_seg dksX3_hour_0 23 rfl rfl
theorem dksX3_hour_2 : cX3_hour.data.toList.drop 47 = dktX3_hour_2 := dk_seg dksX3_hour_1 24 rfl rfl
theorem dX3_hour_0 : decode cX3_hour 0 = .ok (.aload_n 0, 1) := dk_42 (dk_at dksX3_hour_0 0 rfl rfl)
theorem dX3_hour_1 : decode cX3_hour 1 = .ok (.aload_n 0, 1) := dk_42 (dk_at dksX3_hour_0 1 rfl rfl)
theorem dX3_hour_2 : decode cX3_hour 2 = .ok (.iload_n 1, 1) := dk_27 (dk_at dksX3_hour_0 2 rfl rfl)
theorem dX3_hour_3 : decode cX3_hour 3 = .ok (.invokevirtual 109, 3) := dk_182 0 109 (dk_at dksX3_hour_0 3 rfl rfl)
theorem dX3_hour_6 : decode cX3_hour 6 = .ok (.ifCond .ne 7, 3) := dk_154 0 7 (dk_at dksX3_hour_0 6 rfl rfl)
theorem dX3_hour_9 : decode cX3_hour 9 = .ok (.iconst 1, 1) := dk_4 (dk_at dksX3_hour_0 9 rfl rfl)
theorem dX3_hour_10 : decode cX3_hour 10 = .ok (.goto 4, 3) := dk_167 0 4 (dk_at dksX3_hour_0 10 rfl rfl)
theorem dX3_hour_13 : decode cX3_hour 13 = .ok (.iconst 0, 1) := dk_3 (dk_at dksX3_hour_0 13 rfl rfl)
theorem dX3_hour_14 : decode cX3_hour 14 = .ok (.iconst 1, 1) := dk_4 (dk_at dksX3_hour_0 14 rfl rfl)
theorem dX3_hour_15 : decode cX3_hour 15 = .ok (.invokevirtual 91, 3) := dk_182 0 91 (dk_at dksX3_hour_0 15 rfl rfl)
theorem dX3_hour_18 : decode cX3_hour 18 = .ok (.ifCond .ne 23, 3) := dk_154 0 23 (dk_at dksX3_hour_0 18 rfl rfl)
theorem dX3_hour_21 : decode cX3_hour 21 = .ok (.aload_n 0, 1) := dk_42 (dk_at dksX3_hour_0 21 rfl rfl)
theorem dX3_hour_22 : decode cX3_hour 22 = .ok (.iload_n 2, 1) := dk_28 (dk_at dksX3_hour_0 22 rfl rfl)
theorem dX3_hour_23 : decode cX3_hour 23 = .ok (.invokestatic 210, 3) := dk_184 0 210 (dk_at dksX3_hour_1 0 rfl rfl)
theorem dX3_hour_26 : decode cX3_hour 26 = .ok (.ifCond .ne 7, 3) := dk_154 0 7 (dk_at dksX3_hour_1 3 rfl rfl)
theorem dX3_hour_29 : decode cX3_hour 29 = .ok (.iconst 1, 1) := dk_4 (dk_at dksX3_hour_1 6 rfl rfl)
theorem dX3_hour_30 : decode cX3_hour 30 = .ok (.goto 4, 3) := dk_167 0 4 (dk_at dksX3_hour_1 7 rfl rfl)
theorem dX3_hour_33 : decode cX3_hour 33 = .ok (.iconst 0, 1) := dk_3 (dk_at dksX3_hour_1 10 rfl rfl)
theorem dX3_hour_34 : decode cX3_hour 34 = .ok (.iconst 2, 1) := dk_5 (dk_at dksX3_hour_1 11 rfl rfl)
theorem dX3_hour_35 : decode cX3_hour 35 = .ok (.invokevirtual 91, 3) := dk_182 0 91 (dk_at dksX3_hour_1 12 rfl rfl)
theorem dX3_hour_38 : decode cX3_hour 38 = .ok (.ifCond .eq 5, 3) := dk_153 0 5 (dk_at dksX3_hour_1 15 rfl rfl)
theorem dX3_hour_41 : decode cX3_hour 41 = .ok (.iconst 0, 1) := dk_3 (dk_at dksX3_hour_1 18 rfl rfl)
theorem dX3_hour_42 : decode cX3_hour 42 = .ok (.ireturn, 1) := dk_172 (dk_at dksX3_hour_1 19 rfl rfl)
theorem dX3_hour_43 : decode cX3_hour 43 = .ok (.aload_n 0, 1) := dk_42 (dk_at dksX3_hour_1 20 rfl rfl)
theorem dX3_hour_44 : decode cX3_hour 44 = .ok (.iload_n 1, 1) := dk_27 (dk_at dksX3_hour_1 21 rfl rfl)
theorem dX3_hour_45 : decode cX3_hour 45 = .ok (.bipush 60, 2) := dk_16 60 (dk_at dksX3_hour_1 22 rfl rfl)
theorem dX3_hour_47 : decode cX3_hour 47 = .ok (.iload_n 2, 1) := dk_28 (dk_at dksX3_hour_2 0 rfl rfl)
theorem dX3_hour_48 : decode cX3_hour 48 = .ok (.imul, 1) := dk_104 (dk_at dksX3_hour_2 1 rfl rfl)
theorem dX3_hour_49 : decode cX3_hour 49 = .ok (.bipush 60, 2) := dk_16 60 (dk_at dksX3_hour_2 2 rfl rfl)
theorem dX3_hour_51 : decode cX3_hour 51 = .ok (.iload_n 2, 1) := dk_28 (dk_at dksX3_hour_2 4 rfl rfl)
theorem dX3_hour_52 : decode cX3_hour 52 = .ok (.imul, 1) := dk_104 (dk_at dksX3_hour_2 5 rfl rfl)
theorem dX3_hour_53 : decode cX3_hour 53 = .ok (.bipush 60, 2) := dk_16 60 (dk_at dksX3_hour_2 6 rfl rfl)
theorem dX3_hour_55 : decode cX3_hour 55 = .ok (.iadd, 1) := dk_96 (dk_at dksX3_hour_2 8 rfl rfl)
theorem dX3_hour_56 : decode cX3_hour 56 = .ok (.invokevirtual 181, 3) := dk_182 0 181 (dk_at dksX3_hour_2 9 rfl rfl)
theorem dX3_hour_59 : decode cX3_hour 59 = .ok (.ireturn, 1) := dk_172 (dk_at dksX3_hour_2 12 rfl rfl)
abbrev cX3_isHour : ByteArray := prog_16_method_71_code
def yX3_isHour : MethodName := ⟨RX3, "isHour", "(I)Z"⟩
def dkwX3_isHour_0 : List UInt8 := [26, 3, 16, 9, 184, 0, 70, 172]
abbrev dktX3_isHour_0 : List UInt8 := dkwX3_isHour_0 ++ []
theorem dksX3_isHour_0 : cX3_isHour.data.toList.drop 0 = dktX3_isHour_0 := by decide +kernel
theorem dX3_isHour_0 : decode cX3_isHour 0 = .ok (.iload_n 0, 1) := dk_26 (dk_at dksX3_isHour_0 0 rfl rfl)
theorem dX3_isHour_1 : decode cX3_isHour 1 = .ok (.iconst 0, 1) := dk_3 (dk_at dksX3_isHour_0 1 rfl rfl)
theorem dX3_isHour_2 : decode cX3_isHour 2 = .ok (.bipush 9, 2) := dk_16 9 (dk_at dksX3_isHour_0 2 rfl rfl)
theorem dX3_isHour_4 : decode cX3_isHour 4 = .ok (.invokestatic 70, 3) := dk_184 0 70 (dk_at dksX3_isHour_0 4 rfl rfl)
theorem dX3_isHour_7 : decode cX3_isHour 7 = .ok (.ireturn, 1) := dk_172 (dk_at dksX3_isHour_0 7 rfl rfl)
abbrev cX3_ranked : ByteArray := prog_16_method_74_code
def yX3_ranked : MethodName := ⟨RX3, "ranked", "(I)I"⟩
def dkwX3_ranked_3 : List UInt8 := [132, 2, 1, 167, 255, 185, 42, 4, 181, 0, 41, 3, 172]
abbrev dktX3_ranked_3 : List UInt8 := dkwX3_ranked_3 ++ []
def dkwX3_ranked_2 : List UInt8 := [167, 0, 4, 3, 96, 62, 132, 4, 1, 167, 255, 218, 29, 27, 160, 0, 10, 42, 3, 181, 0, 41, 28, 172]
abbrev dktX3_ranked_2 : List UInt8 := dkwX3_ranked_2 ++ dktX3_ranked_3
def dkwX3_ranked_1 : List UInt8 := [46, 162, 0, 33, 29, 21, 4, 28, 159, 0, 17, 42, 21, 4, 28, 182, 0, 213, 153, 0, 7, 4]
abbrev dktX3_ranked_1 : List UInt8 := dkwX3_ranked_1 ++ dktX3_ranked_2
def dkwX3_ranked_0 : List UInt8 := [3, 61, 28, 42, 180, 0, 9, 3, 46, 162, 0, 67, 3, 62, 3, 54, 4, 21, 4, 42, 180, 0, 9, 3]
abbrev dktX3_ranked_0 : List UInt8 := dkwX3_ranked_0 ++ dktX3_ranked_1
theorem dksX3_ranked_0 : cX3_ranked.data.toList.drop 0 = dktX3_ranked_0 := by decide +kernel
theorem dksX3_ranked_1 : cX3_ranked.data.toList.drop 24 = dktX3_ranked_1 := dk_seg dksX3_ranked_0 24 rfl rfl
theorem dksX3_ranked_2 : cX3_ranked.data.toList.drop 46 = dktX3_ranked_2 := dk_seg dksX3_ranked_1 22 rfl rfl
theorem dksX3_ranked_3 : cX3_ranked.data.toList.drop 70 = dktX3_ranked_3 := dk_seg dksX3_ranked_2 24 rfl rfl
theorem dX3_ranked_0 : decode cX3_ranked 0 = .ok (.iconst 0, 1) := dk_3 (dk_at dksX3_ranked_0 0 rfl rfl)
theorem dX3_ranked_1 : decode cX3_ranked 1 = .ok (.istore_n 2, 1) := dk_61 (dk_at dksX3_ranked_0 1 rfl rfl)
theorem dX3_ranked_2 : decode cX3_ranked 2 = .ok (.iload_n 2, 1) := dk_28 (dk_at dksX3_ranked_0 2 rfl rfl)
theorem dX3_ranked_3 : decode cX3_ranked 3 = .ok (.aload_n 0, 1) := dk_42 (dk_at dksX3_ranked_0 3 rfl rfl)
theorem dX3_ranked_4 : decode cX3_ranked 4 = .ok (.getfield 9, 3) := dk_180 0 9 (dk_at dksX3_ranked_0 4 rfl rfl)
theorem dX3_ranked_7 : decode cX3_ranked 7 = .ok (.iconst 0, 1) := dk_3 (dk_at dksX3_ranked_0 7 rfl rfl)
theorem dX3_ranked_8 : decode cX3_ranked 8 = .ok (.iaload, 1) := dk_46 (dk_at dksX3_ranked_0 8 rfl rfl)
theorem dX3_ranked_9 : decode cX3_ranked 9 = .ok (.if_icmp .ge 67, 3) := dk_162 0 67 (dk_at dksX3_ranked_0 9 rfl rfl)
theorem dX3_ranked_12 : decode cX3_ranked 12 = .ok (.iconst 0, 1) := dk_3 (dk_at dksX3_ranked_0 12 rfl rfl)
theorem dX3_ranked_13 : decode cX3_ranked 13 = .ok (.istore_n 3, 1) := dk_62 (dk_at dksX3_ranked_0 13 rfl rfl)
theorem dX3_ranked_14 : decode cX3_ranked 14 = .ok (.iconst 0, 1) := dk_3 (dk_at dksX3_ranked_0 14 rfl rfl)
theorem dX3_ranked_15 : decode cX3_ranked 15 = .ok (.istore 4, 2) := dk_54 4 (dk_at dksX3_ranked_0 15 rfl rfl)
theorem dX3_ranked_17 : decode cX3_ranked 17 = .ok (.iload 4, 2) := dk_21 4 (dk_at dksX3_ranked_0 17 rfl rfl)
theorem dX3_ranked_19 : decode cX3_ranked 19 = .ok (.aload_n 0, 1) := dk_42 (dk_at dksX3_ranked_0 19 rfl rfl)
theorem dX3_ranked_20 : decode cX3_ranked 20 = .ok (.getfield 9, 3) := dk_180 0 9 (dk_at dksX3_ranked_0 20 rfl rfl)
theorem dX3_ranked_23 : decode cX3_ranked 23 = .ok (.iconst 0, 1) := dk_3 (dk_at dksX3_ranked_0 23 rfl rfl)
theorem dX3_ranked_24 : decode cX3_ranked 24 = .ok (.iaload, 1) := dk_46 (dk_at dksX3_ranked_1 0 rfl rfl)
theorem dX3_ranked_25 : decode cX3_ranked 25 = .ok (.if_icmp .ge 33, 3) := dk_162 0 33 (dk_at dksX3_ranked_1 1 rfl rfl)
theorem dX3_ranked_28 : decode cX3_ranked 28 = .ok (.iload_n 3, 1) := dk_29 (dk_at dksX3_ranked_1 4 rfl rfl)
theorem dX3_ranked_29 : decode cX3_ranked 29 = .ok (.iload 4, 2) := dk_21 4 (dk_at dksX3_ranked_1 5 rfl rfl)
theorem dX3_ranked_31 : decode cX3_ranked 31 = .ok (.iload_n 2, 1) := dk_28 (dk_at dksX3_ranked_1 7 rfl rfl)
theorem dX3_ranked_32 : decode cX3_ranked 32 = .ok (.if_icmp .eq 17, 3) := dk_159 0 17 (dk_at dksX3_ranked_1 8 rfl rfl)
theorem dX3_ranked_35 : decode cX3_ranked 35 = .ok (.aload_n 0, 1) := dk_42 (dk_at dksX3_ranked_1 11 rfl rfl)
theorem dX3_ranked_36 : decode cX3_ranked 36 = .ok (.iload 4, 2) := dk_21 4 (dk_at dksX3_ranked_1 12 rfl rfl)
theorem dX3_ranked_38 : decode cX3_ranked 38 = .ok (.iload_n 2, 1) := dk_28 (dk_at dksX3_ranked_1 14 rfl rfl)
theorem dX3_ranked_39 : decode cX3_ranked 39 = .ok (.invokevirtual 213, 3) := dk_182 0 213 (dk_at dksX3_ranked_1 15 rfl rfl)
theorem dX3_ranked_42 : decode cX3_ranked 42 = .ok (.ifCond .eq 7, 3) := dk_153 0 7 (dk_at dksX3_ranked_1 18 rfl rfl)
theorem dX3_ranked_45 : decode cX3_ranked 45 = .ok (.iconst 1, 1) := dk_4 (dk_at dksX3_ranked_1 21 rfl rfl)
theorem dX3_ranked_46 : decode cX3_ranked 46 = .ok (.goto 4, 3) := dk_167 0 4 (dk_at dksX3_ranked_2 0 rfl rfl)
theorem dX3_ranked_49 : decode cX3_ranked 49 = .ok (.iconst 0, 1) := dk_3 (dk_at dksX3_ranked_2 3 rfl rfl)
theorem dX3_ranked_50 : decode cX3_ranked 50 = .ok (.iadd, 1) := dk_96 (dk_at dksX3_ranked_2 4 rfl rfl)
theorem dX3_ranked_51 : decode cX3_ranked 51 = .ok (.istore_n 3, 1) := dk_62 (dk_at dksX3_ranked_2 5 rfl rfl)
theorem dX3_ranked_52 : decode cX3_ranked 52 = .ok (.iinc 4 1, 3) := dk_132 4 1 (dk_at dksX3_ranked_2 6 rfl rfl)
theorem dX3_ranked_55 : decode cX3_ranked 55 = .ok (.goto (-38), 3) := dk_167 255 218 (dk_at dksX3_ranked_2 9 rfl rfl)
theorem dX3_ranked_58 : decode cX3_ranked 58 = .ok (.iload_n 3, 1) := dk_29 (dk_at dksX3_ranked_2 12 rfl rfl)
theorem dX3_ranked_59 : decode cX3_ranked 59 = .ok (.iload_n 1, 1) := dk_27 (dk_at dksX3_ranked_2 13 rfl rfl)
theorem dX3_ranked_60 : decode cX3_ranked 60 = .ok (.if_icmp .ne 10, 3) := dk_160 0 10 (dk_at dksX3_ranked_2 14 rfl rfl)
theorem dX3_ranked_63 : decode cX3_ranked 63 = .ok (.aload_n 0, 1) := dk_42 (dk_at dksX3_ranked_2 17 rfl rfl)
theorem dX3_ranked_64 : decode cX3_ranked 64 = .ok (.iconst 0, 1) := dk_3 (dk_at dksX3_ranked_2 18 rfl rfl)
theorem dX3_ranked_65 : decode cX3_ranked 65 = .ok (.putfield 41, 3) := dk_181 0 41 (dk_at dksX3_ranked_2 19 rfl rfl)
theorem dX3_ranked_68 : decode cX3_ranked 68 = .ok (.iload_n 2, 1) := dk_28 (dk_at dksX3_ranked_2 22 rfl rfl)
theorem dX3_ranked_69 : decode cX3_ranked 69 = .ok (.ireturn, 1) := dk_172 (dk_at dksX3_ranked_2 23 rfl rfl)
theorem dX3_ranked_70 : decode cX3_ranked 70 = .ok (.iinc 2 1, 3) := dk_132 2 1 (dk_at dksX3_ranked_3 0 rfl rfl)
theorem dX3_ranked_73 : decode cX3_ranked 73 = .ok (.goto (-71), 3) := dk_167 255 185 (dk_at dksX3_ranked_3 3 rfl rfl)
theorem dX3_ranked_76 : decode cX3_ranked 76 = .ok (.aload_n 0, 1) := dk_42 (dk_at dksX3_ranked_3 6 rfl rfl)
theorem dX3_ranked_77 : decode cX3_ranked 77 = .ok (.iconst 1, 1) := dk_4 (dk_at dksX3_ranked_3 7 rfl rfl)
theorem dX3_ranked_78 : decode cX3_ranked 78 = .ok (.putfield 41, 3) := dk_181 0 41 (dk_at dksX3_ranked_3 8 rfl rfl)
theorem dX3_ranked_81 : decode cX3_ranked 81 = .ok (.iconst 0, 1) := dk_3 (dk_at dksX3_ranked_3 11 rfl rfl)
theorem dX3_ranked_82 : decode cX3_ranked 82 = .ok (.ireturn, 1) := dk_172 (dk_at dksX3_ranked_3 12 rfl rfl)
abbrev cX3_isBoxAhead : ByteArray := prog_16_method_73_code
def yX3_isBoxAhead : MethodName := ⟨RX3, "isBoxAhead", "(II)Z"⟩
def dkwX3_isBoxAhead_3 : List UInt8 := [167, 0, 4, 3, 172]
abbrev dktX3_isBoxAhead_3 : List UInt8 := dkwX3_isBoxAhead_3 ++ []
def dkwX3_isBoxAhead_2 : List UInt8 := [21, 4, 153, 0, 16, 21, 4, 156, 0, 7, 4, 167, 0, 17, 3, 167, 0, 13, 27, 28, 162, 0, 7, 4]
abbrev dktX3_isBoxAhead_2 : List UInt8 := dkwX3_isBoxAhead_2 ++ dktX3_isBoxAhead_3
def dkwX3_isBoxAhead_1 : List UInt8 := [3, 172, 42, 180, 0, 9, 16, 6, 27, 96, 46, 42, 180, 0, 9, 16, 6, 28, 96, 46, 100, 54, 4]
abbrev dktX3_isBoxAhead_1 : List UInt8 := dkwX3_isBoxAhead_1 ++ dktX3_isBoxAhead_2
def dkwX3_isBoxAhead_0 : List UInt8 := [42, 27, 182, 0, 197, 42, 28, 182, 0, 197, 100, 62, 29, 153, 0, 13, 29, 158, 0, 7, 4, 167, 0, 4]
abbrev dktX3_isBoxAhead_0 : List UInt8 := dkwX3_isBoxAhead_0 ++ dktX3_isBoxAhead_1
theorem dksX3_isBoxAhead_0 : cX3_isBoxAhead.data.toList.drop 0 = dktX3_isBoxAhead_0 := by decide +kernel
theorem dksX3_isBoxAhead_1 : cX3_isBoxAhead.data.toList.drop 24 = dktX3_isBoxAhead_1 := dk_seg dksX3_isBoxAhead_0 24 rfl rfl
theorem dksX3_isBoxAhead_2 : cX3_isBoxAhead.data.toList.drop 47 = dktX3_isBoxAhead_2 := dk_seg dksX3_isBoxAhead_1 23 rfl rfl
theorem dksX3_isBoxAhead_3 : cX3_isBoxAhead.data.toList.drop 71 = dktX3_isBoxAhead_3 := dk_seg dksX3_isBoxAhead_2 24 rfl rfl
theorem dX3_isBoxAhead_0 : decode cX3_isBoxAhead 0 = .ok (.aload_n 0, 1) := dk_42 (dk_at dksX3_isBoxAhead_0 0 rfl rfl)
theorem dX3_isBoxAhead_1 : decode cX3_isBoxAhead 1 = .ok (.iload_n 1, 1) := dk_27 (dk_at dksX3_isBoxAhead_0 1 rfl rfl)
theorem dX3_isBoxAhead_2 : decode cX3_isBoxAhead 2 = .ok (.invokevirtual 197, 3) := dk_182 0 197 (dk_at dksX3_isBoxAhead_0 2 rfl rfl)
theorem dX3_isBoxAhead_5 : decode cX3_isBoxAhead 5 = .ok (.aload_n 0, 1) := dk_42 (dk_at dksX3_isBoxAhead_0 5 rfl rfl)
theorem dX3_isBoxAhead_6 : decode cX3_isBoxAhead 6 = .ok (.iload_n 2, 1) := dk_28 (dk_at dksX3_isBoxAhead_0 6 rfl rfl)
theorem dX3_isBoxAhead_7 : decode cX3_isBoxAhead 7 = .ok (.invokevirtual 197, 3) := dk_182 0 197 (dk_at dksX3_isBoxAhead_0 7 rfl rfl)
theorem dX3_isBoxAhead_10 : decode cX3_isBoxAhead 10 = .ok (.isub, 1) := dk_100 (dk_at dksX3_isBoxAhead_0 10 rfl rfl)
theorem dX3_isBoxAhead_11 : decode cX3_isBoxAhead 11 = .ok (.istore_n 3, 1) := dk_62 (dk_at dksX3_isBoxAhead_0 11 rfl rfl)
theorem dX3_isBoxAhead_12 : decode cX3_isBoxAhead 12 = .ok (.iload_n 3, 1) := dk_29 (dk_at dksX3_isBoxAhead_0 12 rfl rfl)
theorem dX3_isBoxAhead_13 : decode cX3_isBoxAhead 13 = .ok (.ifCond .eq 13, 3) := dk_153 0 13 (dk_at dksX3_isBoxAhead_0 13 rfl rfl)
theorem dX3_isBoxAhead_16 : decode cX3_isBoxAhead 16 = .ok (.iload_n 3, 1) := dk_29 (dk_at dksX3_isBoxAhead_0 16 rfl rfl)
theorem dX3_isBoxAhead_17 : decode cX3_isBoxAhead 17 = .ok (.ifCond .le 7, 3) := dk_158 0 7 (dk_at dksX3_isBoxAhead_0 17 rfl rfl)
theorem dX3_isBoxAhead_20 : decode cX3_isBoxAhead 20 = .ok (.iconst 1, 1) := dk_4 (dk_at dksX3_isBoxAhead_0 20 rfl rfl)
theorem dX3_isBoxAhead_21 : decode cX3_isBoxAhead 21 = .ok (.goto 4, 3) := dk_167 0 4 (dk_at dksX3_isBoxAhead_0 21 rfl rfl)
theorem dX3_isBoxAhead_24 : decode cX3_isBoxAhead 24 = .ok (.iconst 0, 1) := dk_3 (dk_at dksX3_isBoxAhead_1 0 rfl rfl)
theorem dX3_isBoxAhead_25 : decode cX3_isBoxAhead 25 = .ok (.ireturn, 1) := dk_172 (dk_at dksX3_isBoxAhead_1 1 rfl rfl)
theorem dX3_isBoxAhead_26 : decode cX3_isBoxAhead 26 = .ok (.aload_n 0, 1) := dk_42 (dk_at dksX3_isBoxAhead_1 2 rfl rfl)
theorem dX3_isBoxAhead_27 : decode cX3_isBoxAhead 27 = .ok (.getfield 9, 3) := dk_180 0 9 (dk_at dksX3_isBoxAhead_1 3 rfl rfl)
theorem dX3_isBoxAhead_30 : decode cX3_isBoxAhead 30 = .ok (.bipush 6, 2) := dk_16 6 (dk_at dksX3_isBoxAhead_1 6 rfl rfl)
theorem dX3_isBoxAhead_32 : decode cX3_isBoxAhead 32 = .ok (.iload_n 1, 1) := dk_27 (dk_at dksX3_isBoxAhead_1 8 rfl rfl)
theorem dX3_isBoxAhead_33 : decode cX3_isBoxAhead 33 = .ok (.iadd, 1) := dk_96 (dk_at dksX3_isBoxAhead_1 9 rfl rfl)
theorem dX3_isBoxAhead_34 : decode cX3_isBoxAhead 34 = .ok (.iaload, 1) := dk_46 (dk_at dksX3_isBoxAhead_1 10 rfl rfl)
theorem dX3_isBoxAhead_35 : decode cX3_isBoxAhead 35 = .ok (.aload_n 0, 1) := dk_42 (dk_at dksX3_isBoxAhead_1 11 rfl rfl)
theorem dX3_isBoxAhead_36 : decode cX3_isBoxAhead 36 = .ok (.getfield 9, 3) := dk_180 0 9 (dk_at dksX3_isBoxAhead_1 12 rfl rfl)
theorem dX3_isBoxAhead_39 : decode cX3_isBoxAhead 39 = .ok (.bipush 6, 2) := dk_16 6 (dk_at dksX3_isBoxAhead_1 15 rfl rfl)
theorem dX3_isBoxAhead_41 : decode cX3_isBoxAhead 41 = .ok (.iload_n 2, 1) := dk_28 (dk_at dksX3_isBoxAhead_1 17 rfl rfl)
theorem dX3_isBoxAhead_42 : decode cX3_isBoxAhead 42 = .ok (.iadd, 1) := dk_96 (dk_at dksX3_isBoxAhead_1 18 rfl rfl)
theorem dX3_isBoxAhead_43 : decode cX3_isBoxAhead 43 = .ok (.iaload, 1) := dk_46 (dk_at dksX3_isBoxAhead_1 19 rfl rfl)
theorem dX3_isBoxAhead_44 : decode cX3_isBoxAhead 44 = .ok (.isub, 1) := dk_100 (dk_at dksX3_isBoxAhead_1 20 rfl rfl)
theorem dX3_isBoxAhead_45 : decode cX3_isBoxAhead 45 = .ok (.istore 4, 2) := dk_54 4 (dk_at dksX3_isBoxAhead_1 21 rfl rfl)
theorem dX3_isBoxAhead_47 : decode cX3_isBoxAhead 47 = .ok (.iload 4, 2) := dk_21 4 (dk_at dksX3_isBoxAhead_2 0 rfl rfl)
theorem dX3_isBoxAhead_49 : decode cX3_isBoxAhead 49 = .ok (.ifCond .eq 16, 3) := dk_153 0 16 (dk_at dksX3_isBoxAhead_2 2 rfl rfl)
theorem dX3_isBoxAhead_52 : decode cX3_isBoxAhead 52 = .ok (.iload 4, 2) := dk_21 4 (dk_at dksX3_isBoxAhead_2 5 rfl rfl)
theorem dX3_isBoxAhead_54 : decode cX3_isBoxAhead 54 = .ok (.ifCond .ge 7, 3) := dk_156 0 7 (dk_at dksX3_isBoxAhead_2 7 rfl rfl)
theorem dX3_isBoxAhead_57 : decode cX3_isBoxAhead 57 = .ok (.iconst 1, 1) := dk_4 (dk_at dksX3_isBoxAhead_2 10 rfl rfl)
theorem dX3_isBoxAhead_58 : decode cX3_isBoxAhead 58 = .ok (.goto 17, 3) := dk_167 0 17 (dk_at dksX3_isBoxAhead_2 11 rfl rfl)
theorem dX3_isBoxAhead_61 : decode cX3_isBoxAhead 61 = .ok (.iconst 0, 1) := dk_3 (dk_at dksX3_isBoxAhead_2 14 rfl rfl)
theorem dX3_isBoxAhead_62 : decode cX3_isBoxAhead 62 = .ok (.goto 13, 3) := dk_167 0 13 (dk_at dksX3_isBoxAhead_2 15 rfl rfl)
theorem dX3_isBoxAhead_65 : decode cX3_isBoxAhead 65 = .ok (.iload_n 1, 1) := dk_27 (dk_at dksX3_isBoxAhead_2 18 rfl rfl)
theorem dX3_isBoxAhead_66 : decode cX3_isBoxAhead 66 = .ok (.iload_n 2, 1) := dk_28 (dk_at dksX3_isBoxAhead_2 19 rfl rfl)
theorem dX3_isBoxAhead_67 : decode cX3_isBoxAhead 67 = .ok (.if_icmp .ge 7, 3) := dk_162 0 7 (dk_at dksX3_isBoxAhead_2 20 rfl rfl)
theorem dX3_isBoxAhead_70 : decode cX3_isBoxAhead 70 = .ok (.iconst 1, 1) := dk_4 (dk_at dksX3_isBoxAhead_2 23 rfl rfl)
theorem dX3_isBoxAhead_71 : decode cX3_isBoxAhead 71 = .ok (.goto 4, 3) := dk_167 0 4 (dk_at dksX3_isBoxAhead_3 0 rfl rfl)
theorem dX3_isBoxAhead_74 : decode cX3_isBoxAhead 74 = .ok (.iconst 0, 1) := dk_3 (dk_at dksX3_isBoxAhead_3 3 rfl rfl)
theorem dX3_isBoxAhead_75 : decode cX3_isBoxAhead 75 = .ok (.ireturn, 1) := dk_172 (dk_at dksX3_isBoxAhead_3 4 rfl rfl)
abbrev cX3_describe : ByteArray := prog_16_method_78_code
def yX3_describe : MethodName := ⟨RX3, "describe", "(I)I"⟩
def dkwX3_describe_4 : List UInt8 := [27, 42, 28, 5, 182, 0, 78, 182, 0, 226, 61, 167, 255, 185, 42, 180, 0, 216, 172]
abbrev dktX3_describe_4 : List UInt8 := dkwX3_describe_4 ++ []
def dkwX3_describe_3 : List UInt8 := [5, 182, 0, 78, 182, 0, 219, 42, 16, 120, 182, 0, 223, 42, 42, 28, 6, 182, 0, 78, 182, 0, 219, 42]
abbrev dktX3_describe_3 : List UInt8 := dkwX3_describe_3 ++ dktX3_describe_4
def dkwX3_describe_2 : List UInt8 := [16, 32, 182, 0, 223, 42, 42, 28, 4, 182, 0, 78, 182, 0, 219, 42, 16, 45, 182, 0, 223, 42, 42, 28]
abbrev dktX3_describe_2 : List UInt8 := dkwX3_describe_2 ++ dktX3_describe_3
def dkwX3_describe_1 : List UInt8 := [3, 181, 0, 216, 42, 27, 3, 182, 0, 226, 61, 28, 155, 0, 73, 42, 180, 0, 216, 158, 0, 9, 42]
abbrev dktX3_describe_1 : List UInt8 := dkwX3_describe_1 ++ dktX3_describe_2
def dkwX3_describe_0 : List UInt8 := [42, 42, 27, 182, 0, 109, 154, 0, 7, 4, 167, 0, 4, 3, 4, 182, 0, 91, 153, 0, 5, 3, 172, 42]
abbrev dktX3_describe_0 : List UInt8 := dkwX3_describe_0 ++ dktX3_describe_1
theorem dksX3_describe_0 : cX3_describe.data.toList.drop 0 = dktX3_describe_0 := by decide +kernel
theorem dksX3_describe_1 : cX3_describe.data.toList.drop 24 = dktX3_describe_1 := dk_seg dksX3_describe_0 24 rfl rfl
theorem dksX3_describe_2 : cX3_describe.data.toList.drop 47 = dktX3_describe_2 := dk_seg dksX3_describe_1 23 rfl rfl
theorem dksX3_describe_3 : cX3_describe.data.toList.drop 71 = dktX3_describe_3 := dk_seg dksX3_describe_2 24 rfl rfl
theorem dksX3_describe_4 : cX3_describe.data.toList.drop 95 = dktX3_describe_4 := dk_seg dksX3_describe_3 24 rfl rfl
theorem dX3_describe_0 : decode cX3_describe 0 = .ok (.aload_n 0, 1) := dk_42 (dk_at dksX3_describe_0 0 rfl rfl)
theorem dX3_describe_1 : decode cX3_describe 1 = .ok (.aload_n 0, 1) := dk_42 (dk_at dksX3_describe_0 1 rfl rfl)
theorem dX3_describe_2 : decode cX3_describe 2 = .ok (.iload_n 1, 1) := dk_27 (dk_at dksX3_describe_0 2 rfl rfl)
theorem dX3_describe_3 : decode cX3_describe 3 = .ok (.invokevirtual 109, 3) := dk_182 0 109 (dk_at dksX3_describe_0 3 rfl rfl)
theorem dX3_describe_6 : decode cX3_describe 6 = .ok (.ifCond .ne 7, 3) := dk_154 0 7 (dk_at dksX3_describe_0 6 rfl rfl)
theorem dX3_describe_9 : decode cX3_describe 9 = .ok (.iconst 1, 1) := dk_4 (dk_at dksX3_describe_0 9 rfl rfl)
theorem dX3_describe_10 : decode cX3_describe 10 = .ok (.goto 4, 3) := dk_167 0 4 (dk_at dksX3_describe_0 10 rfl rfl)
theorem dX3_describe_13 : decode cX3_describe 13 = .ok (.iconst 0, 1) := dk_3 (dk_at dksX3_describe_0 13 rfl rfl)
theorem dX3_describe_14 : decode cX3_describe 14 = .ok (.iconst 1, 1) := dk_4 (dk_at dksX3_describe_0 14 rfl rfl)
theorem dX3_describe_15 : decode cX3_describe 15 = .ok (.invokevirtual 91, 3) := dk_182 0 91 (dk_at dksX3_describe_0 15 rfl rfl)
theorem dX3_describe_18 : decode cX3_describe 18 = .ok (.ifCond .eq 5, 3) := dk_153 0 5 (dk_at dksX3_describe_0 18 rfl rfl)
theorem dX3_describe_21 : decode cX3_describe 21 = .ok (.iconst 0, 1) := dk_3 (dk_at dksX3_describe_0 21 rfl rfl)
theorem dX3_describe_22 : decode cX3_describe 22 = .ok (.ireturn, 1) := dk_172 (dk_at dksX3_describe_0 22 rfl rfl)
theorem dX3_describe_23 : decode cX3_describe 23 = .ok (.aload_n 0, 1) := dk_42 (dk_at dksX3_describe_0 23 rfl rfl)
theorem dX3_describe_24 : decode cX3_describe 24 = .ok (.iconst 0, 1) := dk_3 (dk_at dksX3_describe_1 0 rfl rfl)
theorem dX3_describe_25 : decode cX3_describe 25 = .ok (.putfield 216, 3) := dk_181 0 216 (dk_at dksX3_describe_1 1 rfl rfl)
theorem dX3_describe_28 : decode cX3_describe 28 = .ok (.aload_n 0, 1) := dk_42 (dk_at dksX3_describe_1 4 rfl rfl)
theorem dX3_describe_29 : decode cX3_describe 29 = .ok (.iload_n 1, 1) := dk_27 (dk_at dksX3_describe_1 5 rfl rfl)
theorem dX3_describe_30 : decode cX3_describe 30 = .ok (.iconst 0, 1) := dk_3 (dk_at dksX3_describe_1 6 rfl rfl)
theorem dX3_describe_31 : decode cX3_describe 31 = .ok (.invokevirtual 226, 3) := dk_182 0 226 (dk_at dksX3_describe_1 7 rfl rfl)
theorem dX3_describe_34 : decode cX3_describe 34 = .ok (.istore_n 2, 1) := dk_61 (dk_at dksX3_describe_1 10 rfl rfl)
theorem dX3_describe_35 : decode cX3_describe 35 = .ok (.iload_n 2, 1) := dk_28 (dk_at dksX3_describe_1 11 rfl rfl)
theorem dX3_describe_36 : decode cX3_describe 36 = .ok (.ifCond .lt 73, 3) := dk_155 0 73 (dk_at dksX3_describe_1 12 rfl rfl)
theorem dX3_describe_39 : decode cX3_describe 39 = .ok (.aload_n 0, 1) := dk_42 (dk_at dksX3_describe_1 15 rfl rfl)
theorem dX3_describe_40 : decode cX3_describe 40 = .ok (.getfield 216, 3) := dk_180 0 216 (dk_at dksX3_describe_1 16 rfl rfl)
theorem dX3_describe_43 : decode cX3_describe 43 = .ok (.ifCond .le 9, 3) := dk_158 0 9 (dk_at dksX3_describe_1 19 rfl rfl)
theorem dX3_describe_46 : decode cX3_describe 46 = .ok (.aload_n 0, 1) := dk_42 (dk_at dksX3_describe_1 22 rfl rfl)
theorem dX3_describe_47 : decode cX3_describe 47 = .ok (.bipush 32, 2) := dk_16 32 (dk_at dksX3_describe_2 0 rfl rfl)
theorem dX3_describe_49 : decode cX3_describe 49 = .ok (.invokevirtual 223, 3) := dk_182 0 223 (dk_at dksX3_describe_2 2 rfl rfl)
theorem dX3_describe_52 : decode cX3_describe 52 = .ok (.aload_n 0, 1) := dk_42 (dk_at dksX3_describe_2 5 rfl rfl)
theorem dX3_describe_53 : decode cX3_describe 53 = .ok (.aload_n 0, 1) := dk_42 (dk_at dksX3_describe_2 6 rfl rfl)
theorem dX3_describe_54 : decode cX3_describe 54 = .ok (.iload_n 2, 1) := dk_28 (dk_at dksX3_describe_2 7 rfl rfl)
theorem dX3_describe_55 : decode cX3_describe 55 = .ok (.iconst 1, 1) := dk_4 (dk_at dksX3_describe_2 8 rfl rfl)
theorem dX3_describe_56 : decode cX3_describe 56 = .ok (.invokevirtual 78, 3) := dk_182 0 78 (dk_at dksX3_describe_2 9 rfl rfl)
theorem dX3_describe_59 : decode cX3_describe 59 = .ok (.invokevirtual 219, 3) := dk_182 0 219 (dk_at dksX3_describe_2 12 rfl rfl)
theorem dX3_describe_62 : decode cX3_describe 62 = .ok (.aload_n 0, 1) := dk_42 (dk_at dksX3_describe_2 15 rfl rfl)
theorem dX3_describe_63 : decode cX3_describe 63 = .ok (.bipush 45, 2) := dk_16 45 (dk_at dksX3_describe_2 16 rfl rfl)
theorem dX3_describe_65 : decode cX3_describe 65 = .ok (.invokevirtual 223, 3) := dk_182 0 223 (dk_at dksX3_describe_2 18 rfl rfl)
theorem dX3_describe_68 : decode cX3_describe 68 = .ok (.aload_n 0, 1) := dk_42 (dk_at dksX3_describe_2 21 rfl rfl)
theorem dX3_describe_69 : decode cX3_describe 69 = .ok (.aload_n 0, 1) := dk_42 (dk_at dksX3_describe_2 22 rfl rfl)
theorem dX3_describe_70 : decode cX3_describe 70 = .ok (.iload_n 2, 1) := dk_28 (dk_at dksX3_describe_2 23 rfl rfl)
theorem dX3_describe_71 : decode cX3_describe 71 = .ok (.iconst 2, 1) := dk_5 (dk_at dksX3_describe_3 0 rfl rfl)
theorem dX3_describe_72 : decode cX3_describe 72 = .ok (.invokevirtual 78, 3) := dk_182 0 78 (dk_at dksX3_describe_3 1 rfl rfl)
theorem dX3_describe_75 : decode cX3_describe 75 = .ok (.invokevirtual 219, 3) := dk_182 0 219 (dk_at dksX3_describe_3 4 rfl rfl)
theorem dX3_describe_78 : decode cX3_describe 78 = .ok (.aload_n 0, 1) := dk_42 (dk_at dksX3_describe_3 7 rfl rfl)
theorem dX3_describe_79 : decode cX3_describe 79 = .ok (.bipush 120, 2) := dk_16 120 (dk_at dksX3_describe_3 8 rfl rfl)
theorem dX3_describe_81 : decode cX3_describe 81 = .ok (.invokevirtual 223, 3) := dk_182 0 223 (dk_at dksX3_describe_3 10 rfl rfl)
theorem dX3_describe_84 : decode cX3_describe 84 = .ok (.aload_n 0, 1) := dk_42 (dk_at dksX3_describe_3 13 rfl rfl)
theorem dX3_describe_85 : decode cX3_describe 85 = .ok (.aload_n 0, 1) := dk_42 (dk_at dksX3_describe_3 14 rfl rfl)
theorem dX3_describe_86 : decode cX3_describe 86 = .ok (.iload_n 2, 1) := dk_28 (dk_at dksX3_describe_3 15 rfl rfl)
theorem dX3_describe_87 : decode cX3_describe 87 = .ok (.iconst 3, 1) := dk_6 (dk_at dksX3_describe_3 16 rfl rfl)
theorem dX3_describe_88 : decode cX3_describe 88 = .ok (.invokevirtual 78, 3) := dk_182 0 78 (dk_at dksX3_describe_3 17 rfl rfl)
theorem dX3_describe_91 : decode cX3_describe 91 = .ok (.invokevirtual 219, 3) := dk_182 0 219 (dk_at dksX3_describe_3 20 rfl rfl)
theorem dX3_describe_94 : decode cX3_describe 94 = .ok (.aload_n 0, 1) := dk_42 (dk_at dksX3_describe_3 23 rfl rfl)
theorem dX3_describe_95 : decode cX3_describe 95 = .ok (.iload_n 1, 1) := dk_27 (dk_at dksX3_describe_4 0 rfl rfl)
theorem dX3_describe_96 : decode cX3_describe 96 = .ok (.aload_n 0, 1) := dk_42 (dk_at dksX3_describe_4 1 rfl rfl)
theorem dX3_describe_97 : decode cX3_describe 97 = .ok (.iload_n 2, 1) := dk_28 (dk_at dksX3_describe_4 2 rfl rfl)
theorem dX3_describe_98 : decode cX3_describe 98 = .ok (.iconst 2, 1) := dk_5 (dk_at dksX3_describe_4 3 rfl rfl)
theorem dX3_describe_99 : decode cX3_describe 99 = .ok (.invokevirtual 78, 3) := dk_182 0 78 (dk_at dksX3_describe_4 4 rfl rfl)
theorem dX3_describe_102 : decode cX3_describe 102 = .ok (.invokevirtual 226, 3) := dk_182 0 226 (dk_at dksX3_describe_4 7 rfl rfl)
theorem dX3_describe_105 : decode cX3_describe 105 = .ok (.istore_n 2, 1) := dk_61 (dk_at dksX3_describe_4 10 rfl rfl)
theorem dX3_describe_106 : decode cX3_describe 106 = .ok (.goto (-71), 3) := dk_167 255 185 (dk_at dksX3_describe_4 11 rfl rfl)
theorem dX3_describe_109 : decode cX3_describe 109 = .ok (.aload_n 0, 1) := dk_42 (dk_at dksX3_describe_4 14 rfl rfl)
theorem dX3_describe_110 : decode cX3_describe 110 = .ok (.getfield 216, 3) := dk_180 0 216 (dk_at dksX3_describe_4 15 rfl rfl)
theorem dX3_describe_113 : decode cX3_describe 113 = .ok (.ireturn, 1) := dk_172 (dk_at dksX3_describe_4 18 rfl rfl)
abbrev cX3_nextLetting : ByteArray := prog_16_method_77_code
def yX3_nextLetting : MethodName := ⟨RX3, "nextLetting", "(II)I"⟩
def dkwX3_nextLetting_4 : List UInt8 := [167, 255, 172, 29, 172]
abbrev dktX3_nextLetting_4 : List UInt8 := dkwX3_nextLetting_4 ++ []
def dkwX3_nextLetting_3 : List UInt8 := [182, 0, 78, 42, 29, 4, 182, 0, 78, 162, 0, 8, 21, 4, 167, 0, 4, 29, 62, 132, 4, 1]
abbrev dktX3_nextLetting_3 : List UInt8 := dkwX3_nextLetting_3 ++ dktX3_nextLetting_4
def dkwX3_nextLetting_2 : List UInt8 := [161, 0, 7, 4, 167, 0, 4, 3, 54, 5, 21, 5, 153, 0, 28, 29, 155, 0, 19, 42, 21, 4, 4]
abbrev dktX3_nextLetting_2 : List UInt8 := dkwX3_nextLetting_2 ++ dktX3_nextLetting_3
def dkwX3_nextLetting_1 : List UInt8 := [154, 0, 29, 42, 21, 4, 3, 182, 0, 78, 27, 160, 0, 18, 42, 21, 4, 4, 182, 0, 78, 28]
abbrev dktX3_nextLetting_1 : List UInt8 := dkwX3_nextLetting_1 ++ dktX3_nextLetting_2
def dkwX3_nextLetting_0 : List UInt8 := [2, 62, 3, 54, 4, 21, 4, 42, 180, 0, 9, 4, 46, 162, 0, 79, 42, 21, 4, 182, 0, 81]
abbrev dktX3_nextLetting_0 : List UInt8 := dkwX3_nextLetting_0 ++ dktX3_nextLetting_1
theorem dksX3_nextLetting_0 : cX3_nextLetting.data.toList.drop 0 = dktX3_nextLetting_0 := by decide +kernel
theorem dksX3_nextLetting_1 : cX3_nextLetting.data.toList.drop 22 = dktX3_nextLetting_1 := dk_seg dksX3_nextLetting_0 22 rfl rfl
theorem dksX3_nextLetting_2 : cX3_nextLetting.data.toList.drop 44 = dktX3_nextLetting_2 := dk_seg dksX3_nextLetting_1 22 rfl rfl
theorem dksX3_nextLetting_3 : cX3_nextLetting.data.toList.drop 67 = dktX3_nextLetting_3 := dk_seg dksX3_nextLetting_2 23 rfl rfl
theorem dksX3_nextLetting_4 : cX3_nextLetting.data.toList.drop 89 = dktX3_nextLetting_4 := dk_seg dksX3_nextLetting_3 22 rfl rfl
theorem dX3_nextLetting_0 : decode cX3_nextLetting 0 = .ok (.iconst (-1), 1) := dk_2 (dk_at dksX3_nextLetting_0 0 rfl rfl)
theorem dX3_nextLetting_1 : decode cX3_nextLetting 1 = .ok (.istore_n 3, 1) := dk_62 (dk_at dksX3_nextLetting_0 1 rfl rfl)
theorem dX3_nextLetting_2 : decode cX3_nextLetting 2 = .ok (.iconst 0, 1) := dk_3 (dk_at dksX3_nextLetting_0 2 rfl rfl)
theorem dX3_nextLetting_3 : decode cX3_nextLetting 3 = .ok (.istore 4, 2) := dk_54 4 (dk_at dksX3_nextLetting_0 3 rfl rfl)
theorem dX3_nextLetting_5 : decode cX3_nextLetting 5 = .ok (.iload 4, 2) := dk_21 4 (dk_at dksX3_nextLetting_0 5 rfl rfl)
theorem dX3_nextLetting_7 : decode cX3_nextLetting 7 = .ok (.aload_n 0, 1) := dk_42 (dk_at dksX3_nextLetting_0 7 rfl rfl)
theorem dX3_nextLetting_8 : decode cX3_nextLetting 8 = .ok (.getfield 9, 3) := dk_180 0 9 (dk_at dksX3_nextLetting_0 8 rfl rfl)
theorem dX3_nextLetting_11 : decode cX3_nextLetting 11 = .ok (.iconst 1, 1) := dk_4 (dk_at dksX3_nextLetting_0 11 rfl rfl)
theorem dX3_nextLetting_12 : decode cX3_nextLetting 12 = .ok (.iaload, 1) := dk_46 (dk_at dksX3_nextLetting_0 12 rfl rfl)
theorem dX3_nextLetting_13 : decode cX3_nextLetting 13 = .ok (.if_icmp .ge 79, 3) := dk_162 0 79 (dk_at dksX3_nextLetting_0 13 rfl rfl)
theorem dX3_nextLetting_16 : decode cX3_nextLetting 16 = .ok (.aload_n 0, 1) := dk_42 (dk_at dksX3_nextLetting_0 16 rfl rfl)
theorem dX3_nextLetting_17 : decode cX3_nextLetting 17 = .ok (.iload 4, 2) := dk_21 4 (dk_at dksX3_nextLetting_0 17 rfl rfl)
theorem dX3_nextLetting_19 : decode cX3_nextLetting 19 = .ok (.invokevirtual 81, 3) := dk_182 0 81 (dk_at dksX3_nextLetting_0 19 rfl rfl)
theorem dX3_nextLetting_22 : decode cX3_nextLetting 22 = .ok (.ifCond .ne 29, 3) := dk_154 0 29 (dk_at dksX3_nextLetting_1 0 rfl rfl)
theorem dX3_nextLetting_25 : decode cX3_nextLetting 25 = .ok (.aload_n 0, 1) := dk_42 (dk_at dksX3_nextLetting_1 3 rfl rfl)
theorem dX3_nextLetting_26 : decode cX3_nextLetting 26 = .ok (.iload 4, 2) := dk_21 4 (dk_at dksX3_nextLetting_1 4 rfl rfl)
theorem dX3_nextLetting_28 : decode cX3_nextLetting 28 = .ok (.iconst 0, 1) := dk_3 (dk_at dksX3_nextLetting_1 6 rfl rfl)
theorem dX3_nextLetting_29 : decode cX3_nextLetting 29 = .ok (.invokevirtual 78, 3) := dk_182 0 78 (dk_at dksX3_nextLetting_1 7 rfl rfl)
theorem dX3_nextLetting_32 : decode cX3_nextLetting 32 = .ok (.iload_n 1, 1) := dk_27 (dk_at dksX3_nextLetting_1 10 rfl rfl)
theorem dX3_nextLetting_33 : decode cX3_nextLetting 33 = .ok (.if_icmp .ne 18, 3) := dk_160 0 18 (dk_at dksX3_nextLetting_1 11 rfl rfl)
theorem dX3_nextLetting_36 : decode cX3_nextLetting 36 = .ok (.aload_n 0, 1) := dk_42 (dk_at dksX3_nextLetting_1 14 rfl rfl)
theorem dX3_nextLetting_37 : decode cX3_nextLetting 37 = .ok (.iload 4, 2) := dk_21 4 (dk_at dksX3_nextLetting_1 15 rfl rfl)
theorem dX3_nextLetting_39 : decode cX3_nextLetting 39 = .ok (.iconst 1, 1) := dk_4 (dk_at dksX3_nextLetting_1 17 rfl rfl)
theorem dX3_nextLetting_40 : decode cX3_nextLetting 40 = .ok (.invokevirtual 78, 3) := dk_182 0 78 (dk_at dksX3_nextLetting_1 18 rfl rfl)
theorem dX3_nextLetting_43 : decode cX3_nextLetting 43 = .ok (.iload_n 2, 1) := dk_28 (dk_at dksX3_nextLetting_1 21 rfl rfl)
theorem dX3_nextLetting_44 : decode cX3_nextLetting 44 = .ok (.if_icmp .lt 7, 3) := dk_161 0 7 (dk_at dksX3_nextLetting_2 0 rfl rfl)
theorem dX3_nextLetting_47 : decode cX3_nextLetting 47 = .ok (.iconst 1, 1) := dk_4 (dk_at dksX3_nextLetting_2 3 rfl rfl)
theorem dX3_nextLetting_48 : decode cX3_nextLetting 48 = .ok (.goto 4, 3) := dk_167 0 4 (dk_at dksX3_nextLetting_2 4 rfl rfl)
theorem dX3_nextLetting_51 : decode cX3_nextLetting 51 = .ok (.iconst 0, 1) := dk_3 (dk_at dksX3_nextLetting_2 7 rfl rfl)
theorem dX3_nextLetting_52 : decode cX3_nextLetting 52 = .ok (.istore 5, 2) := dk_54 5 (dk_at dksX3_nextLetting_2 8 rfl rfl)
theorem dX3_nextLetting_54 : decode cX3_nextLetting 54 = .ok (.iload 5, 2) := dk_21 5 (dk_at dksX3_nextLetting_2 10 rfl rfl)
theorem dX3_nextLetting_56 : decode cX3_nextLetting 56 = .ok (.ifCond .eq 28, 3) := dk_153 0 28 (dk_at dksX3_nextLetting_2 12 rfl rfl)
theorem dX3_nextLetting_59 : decode cX3_nextLetting 59 = .ok (.iload_n 3, 1) := dk_29 (dk_at dksX3_nextLetting_2 15 rfl rfl)
theorem dX3_nextLetting_60 : decode cX3_nextLetting 60 = .ok (.ifCond .lt 19, 3) := dk_155 0 19 (dk_at dksX3_nextLetting_2 16 rfl rfl)
theorem dX3_nextLetting_63 : decode cX3_nextLetting 63 = .ok (.aload_n 0, 1) := dk_42 (dk_at dksX3_nextLetting_2 19 rfl rfl)
theorem dX3_nextLetting_64 : decode cX3_nextLetting 64 = .ok (.iload 4, 2) := dk_21 4 (dk_at dksX3_nextLetting_2 20 rfl rfl)
theorem dX3_nextLetting_66 : decode cX3_nextLetting 66 = .ok (.iconst 1, 1) := dk_4 (dk_at dksX3_nextLetting_2 22 rfl rfl)
theorem dX3_nextLetting_67 : decode cX3_nextLetting 67 = .ok (.invokevirtual 78, 3) := dk_182 0 78 (dk_at dksX3_nextLetting_3 0 rfl rfl)
theorem dX3_nextLetting_70 : decode cX3_nextLetting 70 = .ok (.aload_n 0, 1) := dk_42 (dk_at dksX3_nextLetting_3 3 rfl rfl)
theorem dX3_nextLetting_71 : decode cX3_nextLetting 71 = .ok (.iload_n 3, 1) := dk_29 (dk_at dksX3_nextLetting_3 4 rfl rfl)
theorem dX3_nextLetting_72 : decode cX3_nextLetting 72 = .ok (.iconst 1, 1) := dk_4 (dk_at dksX3_nextLetting_3 5 rfl rfl)
theorem dX3_nextLetting_73 : decode cX3_nextLetting 73 = .ok (.invokevirtual 78, 3) := dk_182 0 78 (dk_at dksX3_nextLetting_3 6 rfl rfl)
theorem dX3_nextLetting_76 : decode cX3_nextLetting 76 = .ok (.if_icmp .ge 8, 3) := dk_162 0 8 (dk_at dksX3_nextLetting_3 9 rfl rfl)
theorem dX3_nextLetting_79 : decode cX3_nextLetting 79 = .ok (.iload 4, 2) := dk_21 4 (dk_at dksX3_nextLetting_3 12 rfl rfl)
theorem dX3_nextLetting_81 : decode cX3_nextLetting 81 = .ok (.goto 4, 3) := dk_167 0 4 (dk_at dksX3_nextLetting_3 14 rfl rfl)
theorem dX3_nextLetting_84 : decode cX3_nextLetting 84 = .ok (.iload_n 3, 1) := dk_29 (dk_at dksX3_nextLetting_3 17 rfl rfl)
theorem dX3_nextLetting_85 : decode cX3_nextLetting 85 = .ok (.istore_n 3, 1) := dk_62 (dk_at dksX3_nextLetting_3 18 rfl rfl)
theorem dX3_nextLetting_86 : decode cX3_nextLetting 86 = .ok (.iinc 4 1, 3) := dk_132 4 1 (dk_at dksX3_nextLetting_3 19 rfl rfl)
theorem dX3_nextLetting_89 : decode cX3_nextLetting 89 = .ok (.goto (-84), 3) := dk_167 255 172 (dk_at dksX3_nextLetting_4 0 rfl rfl)
theorem dX3_nextLetting_92 : decode cX3_nextLetting 92 = .ok (.iload_n 3, 1) := dk_29 (dk_at dksX3_nextLetting_4 3 rfl rfl)
theorem dX3_nextLetting_93 : decode cX3_nextLetting 93 = .ok (.ireturn, 1) := dk_172 (dk_at dksX3_nextLetting_4 4 rfl rfl)
abbrev cX3_writes : ByteArray := prog_16_method_75_code
def yX3_writes : MethodName := ⟨RX3, "writes", "(I)V"⟩
def dkwX3_writes_0 : List UInt8 := [42, 180, 0, 32, 42, 180, 0, 216, 27, 79, 42, 89, 180, 0, 216, 4, 96, 181, 0, 216, 177]
abbrev dktX3_writes_0 : List UInt8 := dkwX3_writes_0 ++ []
theorem dksX3_writes_0 : cX3_writes.data.toList.drop 0 = dktX3_writes_0 := by decide +kernel
theorem dX3_writes_0 : decode cX3_writes 0 = .ok (.aload_n 0, 1) := dk_42 (dk_at dksX3_writes_0 0 rfl rfl)
theorem dX3_writes_1 : decode cX3_writes 1 = .ok (.getfield 32, 3) := dk_180 0 32 (dk_at dksX3_writes_0 1 rfl rfl)
theorem dX3_writes_4 : decode cX3_writes 4 = .ok (.aload_n 0, 1) := dk_42 (dk_at dksX3_writes_0 4 rfl rfl)
theorem dX3_writes_5 : decode cX3_writes 5 = .ok (.getfield 216, 3) := dk_180 0 216 (dk_at dksX3_writes_0 5 rfl rfl)
theorem dX3_writes_8 : decode cX3_writes 8 = .ok (.iload_n 1, 1) := dk_27 (dk_at dksX3_writes_0 8 rfl rfl)
theorem dX3_writes_9 : decode cX3_writes 9 = .ok (.iastore, 1) := dk_79 (dk_at dksX3_writes_0 9 rfl rfl)
theorem dX3_writes_10 : decode cX3_writes 10 = .ok (.aload_n 0, 1) := dk_42 (dk_at dksX3_writes_0 10 rfl rfl)
theorem dX3_writes_11 : decode cX3_writes 11 = .ok (.dup, 1) := dk_89 (dk_at dksX3_writes_0 11 rfl rfl)
theorem dX3_writes_12 : decode cX3_writes 12 = .ok (.getfield 216, 3) := dk_180 0 216 (dk_at dksX3_writes_0 12 rfl rfl)
theorem dX3_writes_15 : decode cX3_writes 15 = .ok (.iconst 1, 1) := dk_4 (dk_at dksX3_writes_0 15 rfl rfl)
theorem dX3_writes_16 : decode cX3_writes 16 = .ok (.iadd, 1) := dk_96 (dk_at dksX3_writes_0 16 rfl rfl)
theorem dX3_writes_17 : decode cX3_writes 17 = .ok (.putfield 216, 3) := dk_181 0 216 (dk_at dksX3_writes_0 17 rfl rfl)
theorem dX3_writes_20 : decode cX3_writes 20 = .ok (.return_, 1) := dk_177 (dk_at dksX3_writes_0 20 rfl rfl)
abbrev cX3_number : ByteArray := prog_16_method_76_code
def yX3_number : MethodName := ⟨RX3, "number", "(I)V"⟩
def dkwX3_number_1 : List UInt8 := [182, 0, 223, 177]
abbrev dktX3_number_1 : List UInt8 := dkwX3_number_1 ++ []
def dkwX3_number_0 : List UInt8 := [27, 16, 10, 161, 0, 11, 42, 27, 16, 10, 108, 182, 0, 219, 42, 16, 48, 27, 16, 10, 112, 96]
abbrev dktX3_number_0 : List UInt8 := dkwX3_number_0 ++ dktX3_number_1
theorem dksX3_number_0 : cX3_number.data.toList.drop 0 = dktX3_number_0 := by decide +kernel
theorem dksX3_number_1 : cX3_number.data.toList.drop 22 = dktX3_number_1 := dk_seg dksX3_number_0 22 rfl rfl
theorem dX3_number_0 : decode cX3_number 0 = .ok (.iload_n 1, 1) := dk_27 (dk_at dksX3_number_0 0 rfl rfl)
theorem dX3_number_1 : decode cX3_number 1 = .ok (.bipush 10, 2) := dk_16 10 (dk_at dksX3_number_0 1 rfl rfl)
theorem dX3_number_3 : decode cX3_number 3 = .ok (.if_icmp .lt 11, 3) := dk_161 0 11 (dk_at dksX3_number_0 3 rfl rfl)
theorem dX3_number_6 : decode cX3_number 6 = .ok (.aload_n 0, 1) := dk_42 (dk_at dksX3_number_0 6 rfl rfl)
theorem dX3_number_7 : decode cX3_number 7 = .ok (.iload_n 1, 1) := dk_27 (dk_at dksX3_number_0 7 rfl rfl)
theorem dX3_number_8 : decode cX3_number 8 = .ok (.bipush 10, 2) := dk_16 10 (dk_at dksX3_number_0 8 rfl rfl)
theorem dX3_number_10 : decode cX3_number 10 = .ok (.idiv, 1) := dk_108 (dk_at dksX3_number_0 10 rfl rfl)
theorem dX3_number_11 : decode cX3_number 11 = .ok (.invokevirtual 219, 3) := dk_182 0 219 (dk_at dksX3_number_0 11 rfl rfl)
theorem dX3_number_14 : decode cX3_number 14 = .ok (.aload_n 0, 1) := dk_42 (dk_at dksX3_number_0 14 rfl rfl)
theorem dX3_number_15 : decode cX3_number 15 = .ok (.bipush 48, 2) := dk_16 48 (dk_at dksX3_number_0 15 rfl rfl)
theorem dX3_number_17 : decode cX3_number 17 = .ok (.iload_n 1, 1) := dk_27 (dk_at dksX3_number_0 17 rfl rfl)
theorem dX3_number_18 : decode cX3_number 18 = .ok (.bipush 10, 2) := dk_16 10 (dk_at dksX3_number_0 18 rfl rfl)
theorem dX3_number_20 : decode cX3_number 20 = .ok (.irem, 1) := dk_112 (dk_at dksX3_number_0 20 rfl rfl)
theorem dX3_number_21 : decode cX3_number 21 = .ok (.iadd, 1) := dk_96 (dk_at dksX3_number_0 21 rfl rfl)
theorem dX3_number_22 : decode cX3_number 22 = .ok (.invokevirtual 223, 3) := dk_182 0 223 (dk_at dksX3_number_1 0 rfl rfl)
theorem dX3_number_25 : decode cX3_number 25 = .ok (.return_, 1) := dk_177 (dk_at dksX3_number_1 3 rfl rfl)
abbrev cX3_show : ByteArray := prog_16_method_79_code
def yX3_show : MethodName := ⟨RX3, "show", "(II)I"⟩
def dkwX3_show_4 : List UInt8 := [16, 43, 167, 0, 5, 16, 46, 182, 0, 223, 132, 3, 5, 167, 255, 204, 42, 180, 0, 216, 172]
abbrev dktX3_show_4 : List UInt8 := dkwX3_show_4 ++ []
def dkwX3_show_3 : List UInt8 := [96, 182, 0, 181, 54, 4, 42, 21, 4, 8, 160, 0, 8, 16, 35, 167, 0, 15, 21, 4, 158, 0, 8]
abbrev dktX3_show_3 : List UInt8 := dkwX3_show_3 ++ dktX3_show_4
def dkwX3_show_2 : List UInt8 := [181, 0, 216, 16, 60, 28, 104, 62, 29, 16, 60, 28, 104, 16, 60, 96, 162, 0, 47, 42, 27, 29, 29, 8]
abbrev dktX3_show_2 : List UInt8 := dkwX3_show_2 ++ dktX3_show_3
def dkwX3_show_1 : List UInt8 := [184, 0, 210, 154, 0, 7, 4, 167, 0, 4, 3, 5, 182, 0, 91, 153, 0, 5, 3, 172, 42, 3]
abbrev dktX3_show_1 : List UInt8 := dkwX3_show_1 ++ dktX3_show_2
def dkwX3_show_0 : List UInt8 := [42, 42, 27, 182, 0, 109, 154, 0, 7, 4, 167, 0, 4, 3, 4, 182, 0, 91, 154, 0, 23, 42, 28]
abbrev dktX3_show_0 : List UInt8 := dkwX3_show_0 ++ dktX3_show_1
theorem dksX3_show_0 : cX3_show.data.toList.drop 0 = dktX3_show_0 := by decide +kernel
theorem dksX3_show_1 : cX3_show.data.toList.drop 23 = dktX3_show_1 := dk_seg dksX3_show_0 23 rfl rfl
theorem dksX3_show_2 : cX3_show.data.toList.drop 45 = dktX3_show_2 := dk_seg dksX3_show_1 22 rfl rfl
theorem dksX3_show_3 : cX3_show.data.toList.drop 69 = dktX3_show_3 := dk_seg dksX3_show_2 24 rfl rfl
theorem dksX3_show_4 : cX3_show.data.toList.drop 92 = dktX3_show_4 := dk_seg dksX3_show_3 23 rfl rfl
theorem dX3_show_0 : decode cX3_show 0 = .ok (.aload_n 0, 1) := dk_42 (dk_at dksX3_show_0 0 rfl rfl)
theorem dX3_show_1 : decode cX3_show 1 = .ok (.aload_n 0, 1) := dk_42 (dk_at dksX3_show_0 1 rfl rfl)
theorem dX3_show_2 : decode cX3_show 2 = .ok (.iload_n 1, 1) := dk_27 (dk_at dksX3_show_0 2 rfl rfl)
theorem dX3_show_3 : decode cX3_show 3 = .ok (.invokevirtual 109, 3) := dk_182 0 109 (dk_at dksX3_show_0 3 rfl rfl)
theorem dX3_show_6 : decode cX3_show 6 = .ok (.ifCond .ne 7, 3) := dk_154 0 7 (dk_at dksX3_show_0 6 rfl rfl)
theorem dX3_show_9 : decode cX3_show 9 = .ok (.iconst 1, 1) := dk_4 (dk_at dksX3_show_0 9 rfl rfl)
theorem dX3_show_10 : decode cX3_show 10 = .ok (.goto 4, 3) := dk_167 0 4 (dk_at dksX3_show_0 10 rfl rfl)
theorem dX3_show_13 : decode cX3_show 13 = .ok (.iconst 0, 1) := dk_3 (dk_at dksX3_show_0 13 rfl rfl)
theorem dX3_show_14 : decode cX3_show 14 = .ok (.iconst 1, 1) := dk_4 (dk_at dksX3_show_0 14 rfl rfl)
theorem dX3_show_15 : decode cX3_show 15 = .ok (.invokevirtual 91, 3) := dk_182 0 91 (dk_at dksX3_show_0 15 rfl rfl)
theorem dX3_show_18 : decode cX3_show 18 = .ok (.ifCond .ne 23, 3) := dk_154 0 23 (dk_at dksX3_show_0 18 rfl rfl)
theorem dX3_show_21 : decode cX3_show 21 = .ok (.aload_n 0, 1) := dk_42 (dk_at dksX3_show_0 21 rfl rfl)
theorem dX3_show_22 : decode cX3_show 22 = .ok (.iload_n 2, 1) := dk_28 (dk_at dksX3_show_0 22 rfl rfl)
theorem dX3_show_23 : decode cX3_show 23 = .ok (.invokestatic 210, 3) := dk_184 0 210 (dk_at dksX3_show_1 0 rfl rfl)
theorem dX3_show_26 : decode cX3_show 26 = .ok (.ifCond .ne 7, 3) := dk_154 0 7 (dk_at dksX3_show_1 3 rfl rfl)
theorem dX3_show_29 : decode cX3_show 29 = .ok (.iconst 1, 1) := dk_4 (dk_at dksX3_show_1 6 rfl rfl)
theorem dX3_show_30 : decode cX3_show 30 = .ok (.goto 4, 3) := dk_167 0 4 (dk_at dksX3_show_1 7 rfl rfl)
theorem dX3_show_33 : decode cX3_show 33 = .ok (.iconst 0, 1) := dk_3 (dk_at dksX3_show_1 10 rfl rfl)
theorem dX3_show_34 : decode cX3_show 34 = .ok (.iconst 2, 1) := dk_5 (dk_at dksX3_show_1 11 rfl rfl)
theorem dX3_show_35 : decode cX3_show 35 = .ok (.invokevirtual 91, 3) := dk_182 0 91 (dk_at dksX3_show_1 12 rfl rfl)
theorem dX3_show_38 : decode cX3_show 38 = .ok (.ifCond .eq 5, 3) := dk_153 0 5 (dk_at dksX3_show_1 15 rfl rfl)
theorem dX3_show_41 : decode cX3_show 41 = .ok (.iconst 0, 1) := dk_3 (dk_at dksX3_show_1 18 rfl rfl)
theorem dX3_show_42 : decode cX3_show 42 = .ok (.ireturn, 1) := dk_172 (dk_at dksX3_show_1 19 rfl rfl)
theorem dX3_show_43 : decode cX3_show 43 = .ok (.aload_n 0, 1) := dk_42 (dk_at dksX3_show_1 20 rfl rfl)
theorem dX3_show_44 : decode cX3_show 44 = .ok (.iconst 0, 1) := dk_3 (dk_at dksX3_show_1 21 rfl rfl)
theorem dX3_show_45 : decode cX3_show 45 = .ok (.putfield 216, 3) := dk_181 0 216 (dk_at dksX3_show_2 0 rfl rfl)
theorem dX3_show_48 : decode cX3_show 48 = .ok (.bipush 60, 2) := dk_16 60 (dk_at dksX3_show_2 3 rfl rfl)
theorem dX3_show_50 : decode cX3_show 50 = .ok (.iload_n 2, 1) := dk_28 (dk_at dksX3_show_2 5 rfl rfl)
theorem dX3_show_51 : decode cX3_show 51 = .ok (.imul, 1) := dk_104 (dk_at dksX3_show_2 6 rfl rfl)
theorem dX3_show_52 : decode cX3_show 52 = .ok (.istore_n 3, 1) := dk_62 (dk_at dksX3_show_2 7 rfl rfl)
theorem dX3_show_53 : decode cX3_show 53 = .ok (.iload_n 3, 1) := dk_29 (dk_at dksX3_show_2 8 rfl rfl)
theorem dX3_show_54 : decode cX3_show 54 = .ok (.bipush 60, 2) := dk_16 60 (dk_at dksX3_show_2 9 rfl rfl)
theorem dX3_show_56 : decode cX3_show 56 = .ok (.iload_n 2, 1) := dk_28 (dk_at dksX3_show_2 11 rfl rfl)
theorem dX3_show_57 : decode cX3_show 57 = .ok (.imul, 1) := dk_104 (dk_at dksX3_show_2 12 rfl rfl)
theorem dX3_show_58 : decode cX3_show 58 = .ok (.bipush 60, 2) := dk_16 60 (dk_at dksX3_show_2 13 rfl rfl)
theorem dX3_show_60 : decode cX3_show 60 = .ok (.iadd, 1) := dk_96 (dk_at dksX3_show_2 15 rfl rfl)
theorem dX3_show_61 : decode cX3_show 61 = .ok (.if_icmp .ge 47, 3) := dk_162 0 47 (dk_at dksX3_show_2 16 rfl rfl)
theorem dX3_show_64 : decode cX3_show 64 = .ok (.aload_n 0, 1) := dk_42 (dk_at dksX3_show_2 19 rfl rfl)
theorem dX3_show_65 : decode cX3_show 65 = .ok (.iload_n 1, 1) := dk_27 (dk_at dksX3_show_2 20 rfl rfl)
theorem dX3_show_66 : decode cX3_show 66 = .ok (.iload_n 3, 1) := dk_29 (dk_at dksX3_show_2 21 rfl rfl)
theorem dX3_show_67 : decode cX3_show 67 = .ok (.iload_n 3, 1) := dk_29 (dk_at dksX3_show_2 22 rfl rfl)
theorem dX3_show_68 : decode cX3_show 68 = .ok (.iconst 5, 1) := dk_8 (dk_at dksX3_show_2 23 rfl rfl)
theorem dX3_show_69 : decode cX3_show 69 = .ok (.iadd, 1) := dk_96 (dk_at dksX3_show_3 0 rfl rfl)
theorem dX3_show_70 : decode cX3_show 70 = .ok (.invokevirtual 181, 3) := dk_182 0 181 (dk_at dksX3_show_3 1 rfl rfl)
theorem dX3_show_73 : decode cX3_show 73 = .ok (.istore 4, 2) := dk_54 4 (dk_at dksX3_show_3 4 rfl rfl)
theorem dX3_show_75 : decode cX3_show 75 = .ok (.aload_n 0, 1) := dk_42 (dk_at dksX3_show_3 6 rfl rfl)
theorem dX3_show_76 : decode cX3_show 76 = .ok (.iload 4, 2) := dk_21 4 (dk_at dksX3_show_3 7 rfl rfl)
theorem dX3_show_78 : decode cX3_show 78 = .ok (.iconst 5, 1) := dk_8 (dk_at dksX3_show_3 9 rfl rfl)
theorem dX3_show_79 : decode cX3_show 79 = .ok (.if_icmp .ne 8, 3) := dk_160 0 8 (dk_at dksX3_show_3 10 rfl rfl)
theorem dX3_show_82 : decode cX3_show 82 = .ok (.bipush 35, 2) := dk_16 35 (dk_at dksX3_show_3 13 rfl rfl)
theorem dX3_show_84 : decode cX3_show 84 = .ok (.goto 15, 3) := dk_167 0 15 (dk_at dksX3_show_3 15 rfl rfl)
theorem dX3_show_87 : decode cX3_show 87 = .ok (.iload 4, 2) := dk_21 4 (dk_at dksX3_show_3 18 rfl rfl)
theorem dX3_show_89 : decode cX3_show 89 = .ok (.ifCond .le 8, 3) := dk_158 0 8 (dk_at dksX3_show_3 20 rfl rfl)
theorem dX3_show_92 : decode cX3_show 92 = .ok (.bipush 43, 2) := dk_16 43 (dk_at dksX3_show_4 0 rfl rfl)
theorem dX3_show_94 : decode cX3_show 94 = .ok (.goto 5, 3) := dk_167 0 5 (dk_at dksX3_show_4 2 rfl rfl)
theorem dX3_show_97 : decode cX3_show 97 = .ok (.bipush 46, 2) := dk_16 46 (dk_at dksX3_show_4 5 rfl rfl)
theorem dX3_show_99 : decode cX3_show 99 = .ok (.invokevirtual 223, 3) := dk_182 0 223 (dk_at dksX3_show_4 7 rfl rfl)
theorem dX3_show_102 : decode cX3_show 102 = .ok (.iinc 3 5, 3) := dk_132 3 5 (dk_at dksX3_show_4 10 rfl rfl)
theorem dX3_show_105 : decode cX3_show 105 = .ok (.goto (-52), 3) := dk_167 255 204 (dk_at dksX3_show_4 13 rfl rfl)
theorem dX3_show_108 : decode cX3_show 108 = .ok (.aload_n 0, 1) := dk_42 (dk_at dksX3_show_4 16 rfl rfl)
theorem dX3_show_109 : decode cX3_show 109 = .ok (.getfield 216, 3) := dk_180 0 216 (dk_at dksX3_show_4 17 rfl rfl)
theorem dX3_show_112 : decode cX3_show 112 = .ok (.ireturn, 1) := dk_172 (dk_at dksX3_show_4 20 rfl rfl)
abbrev cX3_written : ByteArray := prog_16_method_80_code
def yX3_written : MethodName := ⟨RX3, "written", "(I)C"⟩
def dkwX3_written_1 : List UInt8 := [153, 0, 7, 3, 167, 0, 10, 42, 180, 0, 32, 27, 46, 146, 172]
abbrev dktX3_written_1 : List UInt8 := dkwX3_written_1 ++ []
def dkwX3_written_0 : List UInt8 := [42, 27, 3, 42, 180, 0, 216, 4, 100, 184, 0, 70, 154, 0, 7, 4, 167, 0, 4, 3, 4, 182, 0, 91]
abbrev dktX3_written_0 : List UInt8 := dkwX3_written_0 ++ dktX3_written_1
theorem dksX3_written_0 : cX3_written.data.toList.drop 0 = dktX3_written_0 := by decide +kernel
theorem dksX3_written_1 : cX3_written.data.toList.drop 24 = dktX3_written_1 := dk_seg dksX3_written_0 24 rfl rfl
theorem dX3_written_0 : decode cX3_written 0 = .ok (.aload_n 0, 1) := dk_42 (dk_at dksX3_written_0 0 rfl rfl)
theorem dX3_written_1 : decode cX3_written 1 = .ok (.iload_n 1, 1) := dk_27 (dk_at dksX3_written_0 1 rfl rfl)
theorem dX3_written_2 : decode cX3_written 2 = .ok (.iconst 0, 1) := dk_3 (dk_at dksX3_written_0 2 rfl rfl)
theorem dX3_written_3 : decode cX3_written 3 = .ok (.aload_n 0, 1) := dk_42 (dk_at dksX3_written_0 3 rfl rfl)
theorem dX3_written_4 : decode cX3_written 4 = .ok (.getfield 216, 3) := dk_180 0 216 (dk_at dksX3_written_0 4 rfl rfl)
theorem dX3_written_7 : decode cX3_written 7 = .ok (.iconst 1, 1) := dk_4 (dk_at dksX3_written_0 7 rfl rfl)
theorem dX3_written_8 : decode cX3_written 8 = .ok (.isub, 1) := dk_100 (dk_at dksX3_written_0 8 rfl rfl)
theorem dX3_written_9 : decode cX3_written 9 = .ok (.invokestatic 70, 3) := dk_184 0 70 (dk_at dksX3_written_0 9 rfl rfl)
theorem dX3_written_12 : decode cX3_written 12 = .ok (.ifCond .ne 7, 3) := dk_154 0 7 (dk_at dksX3_written_0 12 rfl rfl)
theorem dX3_written_15 : decode cX3_written 15 = .ok (.iconst 1, 1) := dk_4 (dk_at dksX3_written_0 15 rfl rfl)
theorem dX3_written_16 : decode cX3_written 16 = .ok (.goto 4, 3) := dk_167 0 4 (dk_at dksX3_written_0 16 rfl rfl)
theorem dX3_written_19 : decode cX3_written 19 = .ok (.iconst 0, 1) := dk_3 (dk_at dksX3_written_0 19 rfl rfl)
theorem dX3_written_20 : decode cX3_written 20 = .ok (.iconst 1, 1) := dk_4 (dk_at dksX3_written_0 20 rfl rfl)
theorem dX3_written_21 : decode cX3_written 21 = .ok (.invokevirtual 91, 3) := dk_182 0 91 (dk_at dksX3_written_0 21 rfl rfl)
theorem dX3_written_24 : decode cX3_written 24 = .ok (.ifCond .eq 7, 3) := dk_153 0 7 (dk_at dksX3_written_1 0 rfl rfl)
theorem dX3_written_27 : decode cX3_written 27 = .ok (.iconst 0, 1) := dk_3 (dk_at dksX3_written_1 3 rfl rfl)
theorem dX3_written_28 : decode cX3_written 28 = .ok (.goto 10, 3) := dk_167 0 10 (dk_at dksX3_written_1 4 rfl rfl)
theorem dX3_written_31 : decode cX3_written 31 = .ok (.aload_n 0, 1) := dk_42 (dk_at dksX3_written_1 7 rfl rfl)
theorem dX3_written_32 : decode cX3_written 32 = .ok (.getfield 32, 3) := dk_180 0 32 (dk_at dksX3_written_1 8 rfl rfl)
theorem dX3_written_35 : decode cX3_written 35 = .ok (.iload_n 1, 1) := dk_27 (dk_at dksX3_written_1 11 rfl rfl)
theorem dX3_written_36 : decode cX3_written 36 = .ok (.iaload, 1) := dk_46 (dk_at dksX3_written_1 12 rfl rfl)
theorem dX3_written_37 : decode cX3_written 37 = .ok (.i2c, 1) := dk_146 (dk_at dksX3_written_1 13 rfl rfl)
theorem dX3_written_38 : decode cX3_written 38 = .ok (.ireturn, 1) := dk_172 (dk_at dksX3_written_1 14 rfl rfl)
abbrev cX3_account : ByteArray := prog_16_method_84_code
def yX3_account : MethodName := ⟨RX3, "account", "(I)I"⟩
def dkwX3_account_5 : List UInt8 := [46, 172, 42, 180, 0, 9, 8, 46, 172, 42, 180, 0, 238, 172, 42, 180, 0, 48, 172]
abbrev dktX3_account_5 : List UInt8 := dkwX3_account_5 ++ []
def dkwX3_account_4 : List UInt8 := [46, 172, 42, 180, 0, 9, 6, 46, 172, 42, 182, 0, 232, 172, 42, 182, 0, 235, 172, 42, 180, 0, 9, 7]
abbrev dktX3_account_4 : List UInt8 := dkwX3_account_4 ++ dktX3_account_5
def dkwX3_account_3 : List UInt8 := [42, 180, 0, 9, 3, 46, 172, 42, 180, 0, 9, 4, 46, 172, 42, 182, 0, 229, 172, 42, 180, 0, 9, 5]
abbrev dktX3_account_3 : List UInt8 := dkwX3_account_3 ++ dktX3_account_4
def dkwX3_account_2 : List UInt8 := [170, 0, 0, 0, 0, 116, 0, 0, 0, 0, 0, 0, 0, 9, 0, 0, 0, 54, 0, 0, 0, 61, 0, 0, 0, 68, 0, 0, 0, 73, 0, 0, 0, 80, 0, 0, 0, 87, 0, 0, 0, 92, 0, 0, 0, 97, 0, 0, 0, 104, 0, 0, 0, 111]
abbrev dktX3_account_2 : List UInt8 := dkwX3_account_2 ++ dktX3_account_3
def dkwX3_account_1 : List UInt8 := [172, 27]
abbrev dktX3_account_1 : List UInt8 := dkwX3_account_1 ++ dktX3_account_2
def dkwX3_account_0 : List UInt8 := [42, 27, 3, 16, 10, 184, 0, 70, 154, 0, 7, 4, 167, 0, 4, 3, 4, 182, 0, 91, 153, 0, 5, 3]
abbrev dktX3_account_0 : List UInt8 := dkwX3_account_0 ++ dktX3_account_1
theorem dksX3_account_0 : cX3_account.data.toList.drop 0 = dktX3_account_0 := by decide +kernel
theorem dksX3_account_1 : cX3_account.data.toList.drop 24 = dktX3_account_1 := dk_seg dksX3_account_0 24 rfl rfl
theorem dksX3_account_2 : cX3_account.data.toList.drop 26 = dktX3_account_2 := dk_seg dksX3_account_1 2 rfl rfl
theorem dksX3_account_3 : cX3_account.data.toList.drop 80 = dktX3_account_3 := dk_seg dksX3_account_2 54 rfl rfl
theorem dksX3_account_4 : cX3_account.data.toList.drop 104 = dktX3_account_4 := dk_seg dksX3_account_3 24 rfl rfl
theorem dksX3_account_5 : cX3_account.data.toList.drop 128 = dktX3_account_5 := dk_seg dksX3_account_4 24 rfl rfl
theorem dX3_account_0 : decode cX3_account 0 = .ok (.aload_n 0, 1) := dk_42 (dk_at dksX3_account_0 0 rfl rfl)
theorem dX3_account_1 : decode cX3_account 1 = .ok (.iload_n 1, 1) := dk_27 (dk_at dksX3_account_0 1 rfl rfl)
theorem dX3_account_2 : decode cX3_account 2 = .ok (.iconst 0, 1) := dk_3 (dk_at dksX3_account_0 2 rfl rfl)
theorem dX3_account_3 : decode cX3_account 3 = .ok (.bipush 10, 2) := dk_16 10 (dk_at dksX3_account_0 3 rfl rfl)
theorem dX3_account_5 : decode cX3_account 5 = .ok (.invokestatic 70, 3) := dk_184 0 70 (dk_at dksX3_account_0 5 rfl rfl)
theorem dX3_account_8 : decode cX3_account 8 = .ok (.ifCond .ne 7, 3) := dk_154 0 7 (dk_at dksX3_account_0 8 rfl rfl)
theorem dX3_account_11 : decode cX3_account 11 = .ok (.iconst 1, 1) := dk_4 (dk_at dksX3_account_0 11 rfl rfl)
theorem dX3_account_12 : decode cX3_account 12 = .ok (.goto 4, 3) := dk_167 0 4 (dk_at dksX3_account_0 12 rfl rfl)
theorem dX3_account_15 : decode cX3_account 15 = .ok (.iconst 0, 1) := dk_3 (dk_at dksX3_account_0 15 rfl rfl)
theorem dX3_account_16 : decode cX3_account 16 = .ok (.iconst 1, 1) := dk_4 (dk_at dksX3_account_0 16 rfl rfl)
theorem dX3_account_17 : decode cX3_account 17 = .ok (.invokevirtual 91, 3) := dk_182 0 91 (dk_at dksX3_account_0 17 rfl rfl)
theorem dX3_account_20 : decode cX3_account 20 = .ok (.ifCond .eq 5, 3) := dk_153 0 5 (dk_at dksX3_account_0 20 rfl rfl)
theorem dX3_account_23 : decode cX3_account 23 = .ok (.iconst 0, 1) := dk_3 (dk_at dksX3_account_0 23 rfl rfl)
theorem dX3_account_24 : decode cX3_account 24 = .ok (.ireturn, 1) := dk_172 (dk_at dksX3_account_1 0 rfl rfl)
theorem dX3_account_25 : decode cX3_account 25 = .ok (.iload_n 1, 1) := dk_27 (dk_at dksX3_account_1 1 rfl rfl)
theorem dX3_account_26 : decode cX3_account 26 = .ok (.tableswitch 116 0 9 #[54, 61, 68, 73, 80, 87, 92, 97, 104, 111], 54) := by decide +kernel
theorem dX3_account_80 : decode cX3_account 80 = .ok (.aload_n 0, 1) := dk_42 (dk_at dksX3_account_3 0 rfl rfl)
theorem dX3_account_81 : decode cX3_account 81 = .ok (.getfield 9, 3) := dk_180 0 9 (dk_at dksX3_account_3 1 rfl rfl)
theorem dX3_account_84 : decode cX3_account 84 = .ok (.iconst 0, 1) := dk_3 (dk_at dksX3_account_3 4 rfl rfl)
theorem dX3_account_85 : decode cX3_account 85 = .ok (.iaload, 1) := dk_46 (dk_at dksX3_account_3 5 rfl rfl)
theorem dX3_account_86 : decode cX3_account 86 = .ok (.ireturn, 1) := dk_172 (dk_at dksX3_account_3 6 rfl rfl)
theorem dX3_account_87 : decode cX3_account 87 = .ok (.aload_n 0, 1) := dk_42 (dk_at dksX3_account_3 7 rfl rfl)
theorem dX3_account_88 : decode cX3_account 88 = .ok (.getfield 9, 3) := dk_180 0 9 (dk_at dksX3_account_3 8 rfl rfl)
theorem dX3_account_91 : decode cX3_account 91 = .ok (.iconst 1, 1) := dk_4 (dk_at dksX3_account_3 11 rfl rfl)
theorem dX3_account_92 : decode cX3_account 92 = .ok (.iaload, 1) := dk_46 (dk_at dksX3_account_3 12 rfl rfl)
theorem dX3_account_93 : decode cX3_account 93 = .ok (.ireturn, 1) := dk_172 (dk_at dksX3_account_3 13 rfl rfl)
theorem dX3_account_94 : decode cX3_account 94 = .ok (.aload_n 0, 1) := dk_42 (dk_at dksX3_account_3 14 rfl rfl)
theorem dX3_account_95 : decode cX3_account 95 = .ok (.invokevirtual 229, 3) := dk_182 0 229 (dk_at dksX3_account_3 15 rfl rfl)
theorem dX3_account_98 : decode cX3_account 98 = .ok (.ireturn, 1) := dk_172 (dk_at dksX3_account_3 18 rfl rfl)
theorem dX3_account_99 : decode cX3_account 99 = .ok (.aload_n 0, 1) := dk_42 (dk_at dksX3_account_3 19 rfl rfl)
theorem dX3_account_100 : decode cX3_account 100 = .ok (.getfield 9, 3) := dk_180 0 9 (dk_at dksX3_account_3 20 rfl rfl)
theorem dX3_account_103 : decode cX3_account 103 = .ok (.iconst 2, 1) := dk_5 (dk_at dksX3_account_3 23 rfl rfl)
theorem dX3_account_104 : decode cX3_account 104 = .ok (.iaload, 1) := dk_46 (dk_at dksX3_account_4 0 rfl rfl)
theorem dX3_account_105 : decode cX3_account 105 = .ok (.ireturn, 1) := dk_172 (dk_at dksX3_account_4 1 rfl rfl)
theorem dX3_account_106 : decode cX3_account 106 = .ok (.aload_n 0, 1) := dk_42 (dk_at dksX3_account_4 2 rfl rfl)
theorem dX3_account_107 : decode cX3_account 107 = .ok (.getfield 9, 3) := dk_180 0 9 (dk_at dksX3_account_4 3 rfl rfl)
theorem dX3_account_110 : decode cX3_account 110 = .ok (.iconst 3, 1) := dk_6 (dk_at dksX3_account_4 6 rfl rfl)
theorem dX3_account_111 : decode cX3_account 111 = .ok (.iaload, 1) := dk_46 (dk_at dksX3_account_4 7 rfl rfl)
theorem dX3_account_112 : decode cX3_account 112 = .ok (.ireturn, 1) := dk_172 (dk_at dksX3_account_4 8 rfl rfl)
theorem dX3_account_113 : decode cX3_account 113 = .ok (.aload_n 0, 1) := dk_42 (dk_at dksX3_account_4 9 rfl rfl)
theorem dX3_account_114 : decode cX3_account 114 = .ok (.invokevirtual 232, 3) := dk_182 0 232 (dk_at dksX3_account_4 10 rfl rfl)
theorem dX3_account_117 : decode cX3_account 117 = .ok (.ireturn, 1) := dk_172 (dk_at dksX3_account_4 13 rfl rfl)
theorem dX3_account_118 : decode cX3_account 118 = .ok (.aload_n 0, 1) := dk_42 (dk_at dksX3_account_4 14 rfl rfl)
theorem dX3_account_119 : decode cX3_account 119 = .ok (.invokevirtual 235, 3) := dk_182 0 235 (dk_at dksX3_account_4 15 rfl rfl)
theorem dX3_account_122 : decode cX3_account 122 = .ok (.ireturn, 1) := dk_172 (dk_at dksX3_account_4 18 rfl rfl)
theorem dX3_account_123 : decode cX3_account 123 = .ok (.aload_n 0, 1) := dk_42 (dk_at dksX3_account_4 19 rfl rfl)
theorem dX3_account_124 : decode cX3_account 124 = .ok (.getfield 9, 3) := dk_180 0 9 (dk_at dksX3_account_4 20 rfl rfl)
theorem dX3_account_127 : decode cX3_account 127 = .ok (.iconst 4, 1) := dk_7 (dk_at dksX3_account_4 23 rfl rfl)
theorem dX3_account_128 : decode cX3_account 128 = .ok (.iaload, 1) := dk_46 (dk_at dksX3_account_5 0 rfl rfl)
theorem dX3_account_129 : decode cX3_account 129 = .ok (.ireturn, 1) := dk_172 (dk_at dksX3_account_5 1 rfl rfl)
theorem dX3_account_130 : decode cX3_account 130 = .ok (.aload_n 0, 1) := dk_42 (dk_at dksX3_account_5 2 rfl rfl)
theorem dX3_account_131 : decode cX3_account 131 = .ok (.getfield 9, 3) := dk_180 0 9 (dk_at dksX3_account_5 3 rfl rfl)
theorem dX3_account_134 : decode cX3_account 134 = .ok (.iconst 5, 1) := dk_8 (dk_at dksX3_account_5 6 rfl rfl)
theorem dX3_account_135 : decode cX3_account 135 = .ok (.iaload, 1) := dk_46 (dk_at dksX3_account_5 7 rfl rfl)
theorem dX3_account_136 : decode cX3_account 136 = .ok (.ireturn, 1) := dk_172 (dk_at dksX3_account_5 8 rfl rfl)
theorem dX3_account_137 : decode cX3_account 137 = .ok (.aload_n 0, 1) := dk_42 (dk_at dksX3_account_5 9 rfl rfl)
theorem dX3_account_138 : decode cX3_account 138 = .ok (.getfield 238, 3) := dk_180 0 238 (dk_at dksX3_account_5 10 rfl rfl)
theorem dX3_account_141 : decode cX3_account 141 = .ok (.ireturn, 1) := dk_172 (dk_at dksX3_account_5 13 rfl rfl)
theorem dX3_account_142 : decode cX3_account 142 = .ok (.aload_n 0, 1) := dk_42 (dk_at dksX3_account_5 14 rfl rfl)
theorem dX3_account_143 : decode cX3_account 143 = .ok (.getfield 48, 3) := dk_180 0 48 (dk_at dksX3_account_5 15 rfl rfl)
theorem dX3_account_146 : decode cX3_account 146 = .ok (.ireturn, 1) := dk_172 (dk_at dksX3_account_5 18 rfl rfl)
abbrev cX3_allLettings : ByteArray := prog_16_method_83_code
def yX3_allLettings : MethodName := ⟨RX3, "allLettings", "()I"⟩
def dkwX3_allLettings_1 : List UInt8 := [167, 0, 4, 4, 96, 60, 132, 2, 1, 167, 255, 227, 27, 172]
abbrev dktX3_allLettings_1 : List UInt8 := dkwX3_allLettings_1 ++ []
def dkwX3_allLettings_0 : List UInt8 := [3, 60, 3, 61, 28, 42, 180, 0, 9, 4, 46, 162, 0, 25, 27, 42, 28, 182, 0, 81, 153, 0, 7, 3]
abbrev dktX3_allLettings_0 : List UInt8 := dkwX3_allLettings_0 ++ dktX3_allLettings_1
theorem dksX3_allLettings_0 : cX3_allLettings.data.toList.drop 0 = dktX3_allLettings_0 := by decide +kernel
theorem dksX3_allLettings_1 : cX3_allLettings.data.toList.drop 24 = dktX3_allLettings_1 := dk_seg dksX3_allLettings_0 24 rfl rfl
theorem dX3_allLettings_0 : decode cX3_allLettings 0 = .ok (.iconst 0, 1) := dk_3 (dk_at dksX3_allLettings_0 0 rfl rfl)
theorem dX3_allLettings_1 : decode cX3_allLettings 1 = .ok (.istore_n 1, 1) := dk_60 (dk_at dksX3_allLettings_0 1 rfl rfl)
theorem dX3_allLettings_2 : decode cX3_allLettings 2 = .ok (.iconst 0, 1) := dk_3 (dk_at dksX3_allLettings_0 2 rfl rfl)
theorem dX3_allLettings_3 : decode cX3_allLettings 3 = .ok (.istore_n 2, 1) := dk_61 (dk_at dksX3_allLettings_0 3 rfl rfl)
theorem dX3_allLettings_4 : decode cX3_allLettings 4 = .ok (.iload_n 2, 1) := dk_28 (dk_at dksX3_allLettings_0 4 rfl rfl)
theorem dX3_allLettings_5 : decode cX3_allLettings 5 = .ok (.aload_n 0, 1) := dk_42 (dk_at dksX3_allLettings_0 5 rfl rfl)
theorem dX3_allLettings_6 : decode cX3_allLettings 6 = .ok (.getfield 9, 3) := dk_180 0 9 (dk_at dksX3_allLettings_0 6 rfl rfl)
theorem dX3_allLettings_9 : decode cX3_allLettings 9 = .ok (.iconst 1, 1) := dk_4 (dk_at dksX3_allLettings_0 9 rfl rfl)
theorem dX3_allLettings_10 : decode cX3_allLettings 10 = .ok (.iaload, 1) := dk_46 (dk_at dksX3_allLettings_0 10 rfl rfl)
theorem dX3_allLettings_11 : decode cX3_allLettings 11 = .ok (.if_icmp .ge 25, 3) := dk_162 0 25 (dk_at dksX3_allLettings_0 11 rfl rfl)
theorem dX3_allLettings_14 : decode cX3_allLettings 14 = .ok (.iload_n 1, 1) := dk_27 (dk_at dksX3_allLettings_0 14 rfl rfl)
theorem dX3_allLettings_15 : decode cX3_allLettings 15 = .ok (.aload_n 0, 1) := dk_42 (dk_at dksX3_allLettings_0 15 rfl rfl)
theorem dX3_allLettings_16 : decode cX3_allLettings 16 = .ok (.iload_n 2, 1) := dk_28 (dk_at dksX3_allLettings_0 16 rfl rfl)
theorem dX3_allLettings_17 : decode cX3_allLettings 17 = .ok (.invokevirtual 81, 3) := dk_182 0 81 (dk_at dksX3_allLettings_0 17 rfl rfl)
theorem dX3_allLettings_20 : decode cX3_allLettings 20 = .ok (.ifCond .eq 7, 3) := dk_153 0 7 (dk_at dksX3_allLettings_0 20 rfl rfl)
theorem dX3_allLettings_23 : decode cX3_allLettings 23 = .ok (.iconst 0, 1) := dk_3 (dk_at dksX3_allLettings_0 23 rfl rfl)
theorem dX3_allLettings_24 : decode cX3_allLettings 24 = .ok (.goto 4, 3) := dk_167 0 4 (dk_at dksX3_allLettings_1 0 rfl rfl)
theorem dX3_allLettings_27 : decode cX3_allLettings 27 = .ok (.iconst 1, 1) := dk_4 (dk_at dksX3_allLettings_1 3 rfl rfl)
theorem dX3_allLettings_28 : decode cX3_allLettings 28 = .ok (.iadd, 1) := dk_96 (dk_at dksX3_allLettings_1 4 rfl rfl)
theorem dX3_allLettings_29 : decode cX3_allLettings 29 = .ok (.istore_n 1, 1) := dk_60 (dk_at dksX3_allLettings_1 5 rfl rfl)
theorem dX3_allLettings_30 : decode cX3_allLettings 30 = .ok (.iinc 2 1, 3) := dk_132 2 1 (dk_at dksX3_allLettings_1 6 rfl rfl)
theorem dX3_allLettings_33 : decode cX3_allLettings 33 = .ok (.goto (-29), 3) := dk_167 255 227 (dk_at dksX3_allLettings_1 9 rfl rfl)
theorem dX3_allLettings_36 : decode cX3_allLettings 36 = .ok (.iload_n 1, 1) := dk_27 (dk_at dksX3_allLettings_1 12 rfl rfl)
theorem dX3_allLettings_37 : decode cX3_allLettings 37 = .ok (.ireturn, 1) := dk_172 (dk_at dksX3_allLettings_1 13 rfl rfl)
abbrev cX3_allMinutes : ByteArray := prog_16_method_81_code
def yX3_allMinutes : MethodName := ⟨RX3, "allMinutes", "()I"⟩
def dkwX3_allMinutes_1 : List UInt8 := [132, 2, 1, 167, 255, 235, 27, 172]
abbrev dktX3_allMinutes_1 : List UInt8 := dkwX3_allMinutes_1 ++ []
def dkwX3_allMinutes_0 : List UInt8 := [3, 60, 3, 61, 28, 42, 180, 0, 9, 3, 46, 162, 0, 17, 27, 42, 28, 182, 0, 197, 96, 60]
abbrev dktX3_allMinutes_0 : List UInt8 := dkwX3_allMinutes_0 ++ dktX3_allMinutes_1
theorem dksX3_allMinutes_0 : cX3_allMinutes.data.toList.drop 0 = dktX3_allMinutes_0 := by decide +kernel
theorem dksX3_allMinutes_1 : cX3_allMinutes.data.toList.drop 22 = dktX3_allMinutes_1 := dk_seg dksX3_allMinutes_0 22 rfl rfl
theorem dX3_allMinutes_0 : decode cX3_allMinutes 0 = .ok (.iconst 0, 1) := dk_3 (dk_at dksX3_allMinutes_0 0 rfl rfl)
theorem dX3_allMinutes_1 : decode cX3_allMinutes 1 = .ok (.istore_n 1, 1) := dk_60 (dk_at dksX3_allMinutes_0 1 rfl rfl)
theorem dX3_allMinutes_2 : decode cX3_allMinutes 2 = .ok (.iconst 0, 1) := dk_3 (dk_at dksX3_allMinutes_0 2 rfl rfl)
theorem dX3_allMinutes_3 : decode cX3_allMinutes 3 = .ok (.istore_n 2, 1) := dk_61 (dk_at dksX3_allMinutes_0 3 rfl rfl)
theorem dX3_allMinutes_4 : decode cX3_allMinutes 4 = .ok (.iload_n 2, 1) := dk_28 (dk_at dksX3_allMinutes_0 4 rfl rfl)
theorem dX3_allMinutes_5 : decode cX3_allMinutes 5 = .ok (.aload_n 0, 1) := dk_42 (dk_at dksX3_allMinutes_0 5 rfl rfl)
theorem dX3_allMinutes_6 : decode cX3_allMinutes 6 = .ok (.getfield 9, 3) := dk_180 0 9 (dk_at dksX3_allMinutes_0 6 rfl rfl)
theorem dX3_allMinutes_9 : decode cX3_allMinutes 9 = .ok (.iconst 0, 1) := dk_3 (dk_at dksX3_allMinutes_0 9 rfl rfl)
theorem dX3_allMinutes_10 : decode cX3_allMinutes 10 = .ok (.iaload, 1) := dk_46 (dk_at dksX3_allMinutes_0 10 rfl rfl)
theorem dX3_allMinutes_11 : decode cX3_allMinutes 11 = .ok (.if_icmp .ge 17, 3) := dk_162 0 17 (dk_at dksX3_allMinutes_0 11 rfl rfl)
theorem dX3_allMinutes_14 : decode cX3_allMinutes 14 = .ok (.iload_n 1, 1) := dk_27 (dk_at dksX3_allMinutes_0 14 rfl rfl)
theorem dX3_allMinutes_15 : decode cX3_allMinutes 15 = .ok (.aload_n 0, 1) := dk_42 (dk_at dksX3_allMinutes_0 15 rfl rfl)
theorem dX3_allMinutes_16 : decode cX3_allMinutes 16 = .ok (.iload_n 2, 1) := dk_28 (dk_at dksX3_allMinutes_0 16 rfl rfl)
theorem dX3_allMinutes_17 : decode cX3_allMinutes 17 = .ok (.invokevirtual 197, 3) := dk_182 0 197 (dk_at dksX3_allMinutes_0 17 rfl rfl)
theorem dX3_allMinutes_20 : decode cX3_allMinutes 20 = .ok (.iadd, 1) := dk_96 (dk_at dksX3_allMinutes_0 20 rfl rfl)
theorem dX3_allMinutes_21 : decode cX3_allMinutes 21 = .ok (.istore_n 1, 1) := dk_60 (dk_at dksX3_allMinutes_0 21 rfl rfl)
theorem dX3_allMinutes_22 : decode cX3_allMinutes 22 = .ok (.iinc 2 1, 3) := dk_132 2 1 (dk_at dksX3_allMinutes_1 0 rfl rfl)
theorem dX3_allMinutes_25 : decode cX3_allMinutes 25 = .ok (.goto (-21), 3) := dk_167 255 235 (dk_at dksX3_allMinutes_1 3 rfl rfl)
theorem dX3_allMinutes_28 : decode cX3_allMinutes 28 = .ok (.iload_n 1, 1) := dk_27 (dk_at dksX3_allMinutes_1 6 rfl rfl)
theorem dX3_allMinutes_29 : decode cX3_allMinutes 29 = .ok (.ireturn, 1) := dk_172 (dk_at dksX3_allMinutes_1 7 rfl rfl)
abbrev cX3_allCoins : ByteArray := prog_16_method_82_code
def yX3_allCoins : MethodName := ⟨RX3, "allCoins", "()I"⟩
def dkwX3_allCoins_1 : List UInt8 := [132, 2, 1, 167, 255, 235, 27, 172]
abbrev dktX3_allCoins_1 : List UInt8 := dkwX3_allCoins_1 ++ []
def dkwX3_allCoins_0 : List UInt8 := [3, 60, 3, 61, 28, 42, 180, 0, 9, 4, 46, 162, 0, 17, 27, 42, 28, 182, 0, 121, 96, 60]
abbrev dktX3_allCoins_0 : List UInt8 := dkwX3_allCoins_0 ++ dktX3_allCoins_1
theorem dksX3_allCoins_0 : cX3_allCoins.data.toList.drop 0 = dktX3_allCoins_0 := by decide +kernel
theorem dksX3_allCoins_1 : cX3_allCoins.data.toList.drop 22 = dktX3_allCoins_1 := dk_seg dksX3_allCoins_0 22 rfl rfl
theorem dX3_allCoins_0 : decode cX3_allCoins 0 = .ok (.iconst 0, 1) := dk_3 (dk_at dksX3_allCoins_0 0 rfl rfl)
theorem dX3_allCoins_1 : decode cX3_allCoins 1 = .ok (.istore_n 1, 1) := dk_60 (dk_at dksX3_allCoins_0 1 rfl rfl)
theorem dX3_allCoins_2 : decode cX3_allCoins 2 = .ok (.iconst 0, 1) := dk_3 (dk_at dksX3_allCoins_0 2 rfl rfl)
theorem dX3_allCoins_3 : decode cX3_allCoins 3 = .ok (.istore_n 2, 1) := dk_61 (dk_at dksX3_allCoins_0 3 rfl rfl)
theorem dX3_allCoins_4 : decode cX3_allCoins 4 = .ok (.iload_n 2, 1) := dk_28 (dk_at dksX3_allCoins_0 4 rfl rfl)
theorem dX3_allCoins_5 : decode cX3_allCoins 5 = .ok (.aload_n 0, 1) := dk_42 (dk_at dksX3_allCoins_0 5 rfl rfl)
theorem dX3_allCoins_6 : decode cX3_allCoins 6 = .ok (.getfield 9, 3) := dk_180 0 9 (dk_at dksX3_allCoins_0 6 rfl rfl)
theorem dX3_allCoins_9 : decode cX3_allCoins 9 = .ok (.iconst 1, 1) := dk_4 (dk_at dksX3_allCoins_0 9 rfl rfl)
theorem dX3_allCoins_10 : decode cX3_allCoins 10 = .ok (.iaload, 1) := dk_46 (dk_at dksX3_allCoins_0 10 rfl rfl)
theorem dX3_allCoins_11 : decode cX3_allCoins 11 = .ok (.if_icmp .ge 17, 3) := dk_162 0 17 (dk_at dksX3_allCoins_0 11 rfl rfl)
theorem dX3_allCoins_14 : decode cX3_allCoins 14 = .ok (.iload_n 1, 1) := dk_27 (dk_at dksX3_allCoins_0 14 rfl rfl)
theorem dX3_allCoins_15 : decode cX3_allCoins 15 = .ok (.aload_n 0, 1) := dk_42 (dk_at dksX3_allCoins_0 15 rfl rfl)
theorem dX3_allCoins_16 : decode cX3_allCoins 16 = .ok (.iload_n 2, 1) := dk_28 (dk_at dksX3_allCoins_0 16 rfl rfl)
theorem dX3_allCoins_17 : decode cX3_allCoins 17 = .ok (.invokevirtual 121, 3) := dk_182 0 121 (dk_at dksX3_allCoins_0 17 rfl rfl)
theorem dX3_allCoins_20 : decode cX3_allCoins 20 = .ok (.iadd, 1) := dk_96 (dk_at dksX3_allCoins_0 20 rfl rfl)
theorem dX3_allCoins_21 : decode cX3_allCoins 21 = .ok (.istore_n 1, 1) := dk_60 (dk_at dksX3_allCoins_0 21 rfl rfl)
theorem dX3_allCoins_22 : decode cX3_allCoins 22 = .ok (.iinc 2 1, 3) := dk_132 2 1 (dk_at dksX3_allCoins_1 0 rfl rfl)
theorem dX3_allCoins_25 : decode cX3_allCoins 25 = .ok (.goto (-21), 3) := dk_167 255 235 (dk_at dksX3_allCoins_1 3 rfl rfl)
theorem dX3_allCoins_28 : decode cX3_allCoins 28 = .ok (.iload_n 1, 1) := dk_27 (dk_at dksX3_allCoins_1 6 rfl rfl)
theorem dX3_allCoins_29 : decode cX3_allCoins 29 = .ok (.ireturn, 1) := dk_172 (dk_at dksX3_allCoins_1 7 rfl rfl)
abbrev cX3_isOnce : ByteArray := prog_16_method_85_code
def yX3_isOnce : MethodName := ⟨RX3, "isOnce", "()Z"⟩
def dkwX3_isOnce_4 : List UInt8 := [182, 0, 84, 96, 61, 132, 3, 1, 167, 255, 223, 28, 27, 160, 0, 7, 4, 167, 0, 4, 3, 172]
abbrev dktX3_isOnce_4 : List UInt8 := dkwX3_isOnce_4 ++ []
def dkwX3_isOnce_3 : List UInt8 := [180, 0, 9, 4, 46, 162, 0, 29, 28, 42, 29, 182, 0, 81, 153, 0, 7, 3, 167, 0, 8, 42, 29]
abbrev dktX3_isOnce_3 : List UInt8 := dkwX3_isOnce_3 ++ dktX3_isOnce_4
def dkwX3_isOnce_2 : List UInt8 := [172, 27, 21, 4, 96, 60, 132, 3, 1, 167, 255, 222, 132, 2, 1, 167, 255, 204, 3, 61, 3, 62, 29, 42]
abbrev dktX3_isOnce_2 : List UInt8 := dkwX3_isOnce_2 ++ dktX3_isOnce_3
def dkwX3_isOnce_1 : List UInt8 := [17, 2, 88, 162, 0, 33, 42, 28, 29, 29, 4, 96, 182, 0, 181, 54, 4, 21, 4, 4, 164, 0, 5, 3]
abbrev dktX3_isOnce_1 : List UInt8 := dkwX3_isOnce_1 ++ dktX3_isOnce_2
def dkwX3_isOnce_0 : List UInt8 := [42, 3, 181, 0, 41, 3, 60, 3, 61, 28, 42, 180, 0, 9, 3, 46, 162, 0, 48, 3, 62, 29]
abbrev dktX3_isOnce_0 : List UInt8 := dkwX3_isOnce_0 ++ dktX3_isOnce_1
theorem dksX3_isOnce_0 : cX3_isOnce.data.toList.drop 0 = dktX3_isOnce_0 := by decide +kernel
theorem dksX3_isOnce_1 : cX3_isOnce.data.toList.drop 22 = dktX3_isOnce_1 := dk_seg dksX3_isOnce_0 22 rfl rfl
theorem dksX3_isOnce_2 : cX3_isOnce.data.toList.drop 46 = dktX3_isOnce_2 := dk_seg dksX3_isOnce_1 24 rfl rfl
theorem dksX3_isOnce_3 : cX3_isOnce.data.toList.drop 70 = dktX3_isOnce_3 := dk_seg dksX3_isOnce_2 24 rfl rfl
theorem dksX3_isOnce_4 : cX3_isOnce.data.toList.drop 93 = dktX3_isOnce_4 := dk_seg dksX3_isOnce_3 23 rfl rfl
theorem dX3_isOnce_0 : decode cX3_isOnce 0 = .ok (.aload_n 0, 1) := dk_42 (dk_at dksX3_isOnce_0 0 rfl rfl)
theorem dX3_isOnce_1 : decode cX3_isOnce 1 = .ok (.iconst 0, 1) := dk_3 (dk_at dksX3_isOnce_0 1 rfl rfl)
theorem dX3_isOnce_2 : decode cX3_isOnce 2 = .ok (.putfield 41, 3) := dk_181 0 41 (dk_at dksX3_isOnce_0 2 rfl rfl)
theorem dX3_isOnce_5 : decode cX3_isOnce 5 = .ok (.iconst 0, 1) := dk_3 (dk_at dksX3_isOnce_0 5 rfl rfl)
theorem dX3_isOnce_6 : decode cX3_isOnce 6 = .ok (.istore_n 1, 1) := dk_60 (dk_at dksX3_isOnce_0 6 rfl rfl)
theorem dX3_isOnce_7 : decode cX3_isOnce 7 = .ok (.iconst 0, 1) := dk_3 (dk_at dksX3_isOnce_0 7 rfl rfl)
theorem dX3_isOnce_8 : decode cX3_isOnce 8 = .ok (.istore_n 2, 1) := dk_61 (dk_at dksX3_isOnce_0 8 rfl rfl)
theorem dX3_isOnce_9 : decode cX3_isOnce 9 = .ok (.iload_n 2, 1) := dk_28 (dk_at dksX3_isOnce_0 9 rfl rfl)
theorem dX3_isOnce_10 : decode cX3_isOnce 10 = .ok (.aload_n 0, 1) := dk_42 (dk_at dksX3_isOnce_0 10 rfl rfl)
theorem dX3_isOnce_11 : decode cX3_isOnce 11 = .ok (.getfield 9, 3) := dk_180 0 9 (dk_at dksX3_isOnce_0 11 rfl rfl)
theorem dX3_isOnce_14 : decode cX3_isOnce 14 = .ok (.iconst 0, 1) := dk_3 (dk_at dksX3_isOnce_0 14 rfl rfl)
theorem dX3_isOnce_15 : decode cX3_isOnce 15 = .ok (.iaload, 1) := dk_46 (dk_at dksX3_isOnce_0 15 rfl rfl)
theorem dX3_isOnce_16 : decode cX3_isOnce 16 = .ok (.if_icmp .ge 48, 3) := dk_162 0 48 (dk_at dksX3_isOnce_0 16 rfl rfl)
theorem dX3_isOnce_19 : decode cX3_isOnce 19 = .ok (.iconst 0, 1) := dk_3 (dk_at dksX3_isOnce_0 19 rfl rfl)
theorem dX3_isOnce_20 : decode cX3_isOnce 20 = .ok (.istore_n 3, 1) := dk_62 (dk_at dksX3_isOnce_0 20 rfl rfl)
theorem dX3_isOnce_21 : decode cX3_isOnce 21 = .ok (.iload_n 3, 1) := dk_29 (dk_at dksX3_isOnce_0 21 rfl rfl)
theorem dX3_isOnce_22 : decode cX3_isOnce 22 = .ok (.sipush 600, 3) := dk_17 2 88 (dk_at dksX3_isOnce_1 0 rfl rfl)
theorem dX3_isOnce_25 : decode cX3_isOnce 25 = .ok (.if_icmp .ge 33, 3) := dk_162 0 33 (dk_at dksX3_isOnce_1 3 rfl rfl)
theorem dX3_isOnce_28 : decode cX3_isOnce 28 = .ok (.aload_n 0, 1) := dk_42 (dk_at dksX3_isOnce_1 6 rfl rfl)
theorem dX3_isOnce_29 : decode cX3_isOnce 29 = .ok (.iload_n 2, 1) := dk_28 (dk_at dksX3_isOnce_1 7 rfl rfl)
theorem dX3_isOnce_30 : decode cX3_isOnce 30 = .ok (.iload_n 3, 1) := dk_29 (dk_at dksX3_isOnce_1 8 rfl rfl)
theorem dX3_isOnce_31 : decode cX3_isOnce 31 = .ok (.iload_n 3, 1) := dk_29 (dk_at dksX3_isOnce_1 9 rfl rfl)
theorem dX3_isOnce_32 : decode cX3_isOnce 32 = .ok (.iconst 1, 1) := dk_4 (dk_at dksX3_isOnce_1 10 rfl rfl)
theorem dX3_isOnce_33 : decode cX3_isOnce 33 = .ok (.iadd, 1) := dk_96 (dk_at dksX3_isOnce_1 11 rfl rfl)
theorem dX3_isOnce_34 : decode cX3_isOnce 34 = .ok (.invokevirtual 181, 3) := dk_182 0 181 (dk_at dksX3_isOnce_1 12 rfl rfl)
theorem dX3_isOnce_37 : decode cX3_isOnce 37 = .ok (.istore 4, 2) := dk_54 4 (dk_at dksX3_isOnce_1 15 rfl rfl)
theorem dX3_isOnce_39 : decode cX3_isOnce 39 = .ok (.iload 4, 2) := dk_21 4 (dk_at dksX3_isOnce_1 17 rfl rfl)
theorem dX3_isOnce_41 : decode cX3_isOnce 41 = .ok (.iconst 1, 1) := dk_4 (dk_at dksX3_isOnce_1 19 rfl rfl)
theorem dX3_isOnce_42 : decode cX3_isOnce 42 = .ok (.if_icmp .le 5, 3) := dk_164 0 5 (dk_at dksX3_isOnce_1 20 rfl rfl)
theorem dX3_isOnce_45 : decode cX3_isOnce 45 = .ok (.iconst 0, 1) := dk_3 (dk_at dksX3_isOnce_1 23 rfl rfl)
theorem dX3_isOnce_46 : decode cX3_isOnce 46 = .ok (.ireturn, 1) := dk_172 (dk_at dksX3_isOnce_2 0 rfl rfl)
theorem dX3_isOnce_47 : decode cX3_isOnce 47 = .ok (.iload_n 1, 1) := dk_27 (dk_at dksX3_isOnce_2 1 rfl rfl)
theorem dX3_isOnce_48 : decode cX3_isOnce 48 = .ok (.iload 4, 2) := dk_21 4 (dk_at dksX3_isOnce_2 2 rfl rfl)
theorem dX3_isOnce_50 : decode cX3_isOnce 50 = .ok (.iadd, 1) := dk_96 (dk_at dksX3_isOnce_2 4 rfl rfl)
theorem dX3_isOnce_51 : decode cX3_isOnce 51 = .ok (.istore_n 1, 1) := dk_60 (dk_at dksX3_isOnce_2 5 rfl rfl)
theorem dX3_isOnce_52 : decode cX3_isOnce 52 = .ok (.iinc 3 1, 3) := dk_132 3 1 (dk_at dksX3_isOnce_2 6 rfl rfl)
theorem dX3_isOnce_55 : decode cX3_isOnce 55 = .ok (.goto (-34), 3) := dk_167 255 222 (dk_at dksX3_isOnce_2 9 rfl rfl)
theorem dX3_isOnce_58 : decode cX3_isOnce 58 = .ok (.iinc 2 1, 3) := dk_132 2 1 (dk_at dksX3_isOnce_2 12 rfl rfl)
theorem dX3_isOnce_61 : decode cX3_isOnce 61 = .ok (.goto (-52), 3) := dk_167 255 204 (dk_at dksX3_isOnce_2 15 rfl rfl)
theorem dX3_isOnce_64 : decode cX3_isOnce 64 = .ok (.iconst 0, 1) := dk_3 (dk_at dksX3_isOnce_2 18 rfl rfl)
theorem dX3_isOnce_65 : decode cX3_isOnce 65 = .ok (.istore_n 2, 1) := dk_61 (dk_at dksX3_isOnce_2 19 rfl rfl)
theorem dX3_isOnce_66 : decode cX3_isOnce 66 = .ok (.iconst 0, 1) := dk_3 (dk_at dksX3_isOnce_2 20 rfl rfl)
theorem dX3_isOnce_67 : decode cX3_isOnce 67 = .ok (.istore_n 3, 1) := dk_62 (dk_at dksX3_isOnce_2 21 rfl rfl)
theorem dX3_isOnce_68 : decode cX3_isOnce 68 = .ok (.iload_n 3, 1) := dk_29 (dk_at dksX3_isOnce_2 22 rfl rfl)
theorem dX3_isOnce_69 : decode cX3_isOnce 69 = .ok (.aload_n 0, 1) := dk_42 (dk_at dksX3_isOnce_2 23 rfl rfl)
theorem dX3_isOnce_70 : decode cX3_isOnce 70 = .ok (.getfield 9, 3) := dk_180 0 9 (dk_at dksX3_isOnce_3 0 rfl rfl)
theorem dX3_isOnce_73 : decode cX3_isOnce 73 = .ok (.iconst 1, 1) := dk_4 (dk_at dksX3_isOnce_3 3 rfl rfl)
theorem dX3_isOnce_74 : decode cX3_isOnce 74 = .ok (.iaload, 1) := dk_46 (dk_at dksX3_isOnce_3 4 rfl rfl)
theorem dX3_isOnce_75 : decode cX3_isOnce 75 = .ok (.if_icmp .ge 29, 3) := dk_162 0 29 (dk_at dksX3_isOnce_3 5 rfl rfl)
theorem dX3_isOnce_78 : decode cX3_isOnce 78 = .ok (.iload_n 2, 1) := dk_28 (dk_at dksX3_isOnce_3 8 rfl rfl)
theorem dX3_isOnce_79 : decode cX3_isOnce 79 = .ok (.aload_n 0, 1) := dk_42 (dk_at dksX3_isOnce_3 9 rfl rfl)
theorem dX3_isOnce_80 : decode cX3_isOnce 80 = .ok (.iload_n 3, 1) := dk_29 (dk_at dksX3_isOnce_3 10 rfl rfl)
theorem dX3_isOnce_81 : decode cX3_isOnce 81 = .ok (.invokevirtual 81, 3) := dk_182 0 81 (dk_at dksX3_isOnce_3 11 rfl rfl)
theorem dX3_isOnce_84 : decode cX3_isOnce 84 = .ok (.ifCond .eq 7, 3) := dk_153 0 7 (dk_at dksX3_isOnce_3 14 rfl rfl)
theorem dX3_isOnce_87 : decode cX3_isOnce 87 = .ok (.iconst 0, 1) := dk_3 (dk_at dksX3_isOnce_3 17 rfl rfl)
theorem dX3_isOnce_88 : decode cX3_isOnce 88 = .ok (.goto 8, 3) := dk_167 0 8 (dk_at dksX3_isOnce_3 18 rfl rfl)
theorem dX3_isOnce_91 : decode cX3_isOnce 91 = .ok (.aload_n 0, 1) := dk_42 (dk_at dksX3_isOnce_3 21 rfl rfl)
theorem dX3_isOnce_92 : decode cX3_isOnce 92 = .ok (.iload_n 3, 1) := dk_29 (dk_at dksX3_isOnce_3 22 rfl rfl)
theorem dX3_isOnce_93 : decode cX3_isOnce 93 = .ok (.invokevirtual 84, 3) := dk_182 0 84 (dk_at dksX3_isOnce_4 0 rfl rfl)
theorem dX3_isOnce_96 : decode cX3_isOnce 96 = .ok (.iadd, 1) := dk_96 (dk_at dksX3_isOnce_4 3 rfl rfl)
theorem dX3_isOnce_97 : decode cX3_isOnce 97 = .ok (.istore_n 2, 1) := dk_61 (dk_at dksX3_isOnce_4 4 rfl rfl)
theorem dX3_isOnce_98 : decode cX3_isOnce 98 = .ok (.iinc 3 1, 3) := dk_132 3 1 (dk_at dksX3_isOnce_4 5 rfl rfl)
theorem dX3_isOnce_101 : decode cX3_isOnce 101 = .ok (.goto (-33), 3) := dk_167 255 223 (dk_at dksX3_isOnce_4 8 rfl rfl)
theorem dX3_isOnce_104 : decode cX3_isOnce 104 = .ok (.iload_n 2, 1) := dk_28 (dk_at dksX3_isOnce_4 11 rfl rfl)
theorem dX3_isOnce_105 : decode cX3_isOnce 105 = .ok (.iload_n 1, 1) := dk_27 (dk_at dksX3_isOnce_4 12 rfl rfl)
theorem dX3_isOnce_106 : decode cX3_isOnce 106 = .ok (.if_icmp .ne 7, 3) := dk_160 0 7 (dk_at dksX3_isOnce_4 13 rfl rfl)
theorem dX3_isOnce_109 : decode cX3_isOnce 109 = .ok (.iconst 1, 1) := dk_4 (dk_at dksX3_isOnce_4 16 rfl rfl)
theorem dX3_isOnce_110 : decode cX3_isOnce 110 = .ok (.goto 4, 3) := dk_167 0 4 (dk_at dksX3_isOnce_4 17 rfl rfl)
theorem dX3_isOnce_113 : decode cX3_isOnce 113 = .ok (.iconst 0, 1) := dk_3 (dk_at dksX3_isOnce_4 20 rfl rfl)
theorem dX3_isOnce_114 : decode cX3_isOnce 114 = .ok (.ireturn, 1) := dk_172 (dk_at dksX3_isOnce_4 21 rfl rfl)
abbrev cX3_meanLength : ByteArray := prog_16_method_86_code
def yX3_meanLength : MethodName := ⟨RX3, "meanLength", "()D"⟩
def dkwX3_meanLength_1 : List UInt8 := [167, 0, 11, 42, 182, 0, 232, 135, 27, 135, 111, 175]
abbrev dktX3_meanLength_1 : List UInt8 := dkwX3_meanLength_1 ++ []
def dkwX3_meanLength_0 : List UInt8 := [42, 182, 0, 229, 60, 42, 27, 154, 0, 7, 4, 167, 0, 4, 3, 4, 182, 0, 91, 153, 0, 7, 14]
abbrev dktX3_meanLength_0 : List UInt8 := dkwX3_meanLength_0 ++ dktX3_meanLength_1
theorem dksX3_meanLength_0 : cX3_meanLength.data.toList.drop 0 = dktX3_meanLength_0 := by decide +kernel
theorem dksX3_meanLength_1 : cX3_meanLength.data.toList.drop 23 = dktX3_meanLength_1 := dk_seg dksX3_meanLength_0 23 rfl rfl
theorem dX3_meanLength_0 : decode cX3_meanLength 0 = .ok (.aload_n 0, 1) := dk_42 (dk_at dksX3_meanLength_0 0 rfl rfl)
theorem dX3_meanLength_1 : decode cX3_meanLength 1 = .ok (.invokevirtual 229, 3) := dk_182 0 229 (dk_at dksX3_meanLength_0 1 rfl rfl)
theorem dX3_meanLength_4 : decode cX3_meanLength 4 = .ok (.istore_n 1, 1) := dk_60 (dk_at dksX3_meanLength_0 4 rfl rfl)
theorem dX3_meanLength_5 : decode cX3_meanLength 5 = .ok (.aload_n 0, 1) := dk_42 (dk_at dksX3_meanLength_0 5 rfl rfl)
theorem dX3_meanLength_6 : decode cX3_meanLength 6 = .ok (.iload_n 1, 1) := dk_27 (dk_at dksX3_meanLength_0 6 rfl rfl)
theorem dX3_meanLength_7 : decode cX3_meanLength 7 = .ok (.ifCond .ne 7, 3) := dk_154 0 7 (dk_at dksX3_meanLength_0 7 rfl rfl)
theorem dX3_meanLength_10 : decode cX3_meanLength 10 = .ok (.iconst 1, 1) := dk_4 (dk_at dksX3_meanLength_0 10 rfl rfl)
theorem dX3_meanLength_11 : decode cX3_meanLength 11 = .ok (.goto 4, 3) := dk_167 0 4 (dk_at dksX3_meanLength_0 11 rfl rfl)
theorem dX3_meanLength_14 : decode cX3_meanLength 14 = .ok (.iconst 0, 1) := dk_3 (dk_at dksX3_meanLength_0 14 rfl rfl)
theorem dX3_meanLength_15 : decode cX3_meanLength 15 = .ok (.iconst 1, 1) := dk_4 (dk_at dksX3_meanLength_0 15 rfl rfl)
theorem dX3_meanLength_16 : decode cX3_meanLength 16 = .ok (.invokevirtual 91, 3) := dk_182 0 91 (dk_at dksX3_meanLength_0 16 rfl rfl)
theorem dX3_meanLength_19 : decode cX3_meanLength 19 = .ok (.ifCond .eq 7, 3) := dk_153 0 7 (dk_at dksX3_meanLength_0 19 rfl rfl)
theorem dX3_meanLength_22 : decode cX3_meanLength 22 = .ok (.dconst 0, 1) := dk_14 (dk_at dksX3_meanLength_0 22 rfl rfl)
theorem dX3_meanLength_23 : decode cX3_meanLength 23 = .ok (.goto 11, 3) := dk_167 0 11 (dk_at dksX3_meanLength_1 0 rfl rfl)
theorem dX3_meanLength_26 : decode cX3_meanLength 26 = .ok (.aload_n 0, 1) := dk_42 (dk_at dksX3_meanLength_1 3 rfl rfl)
theorem dX3_meanLength_27 : decode cX3_meanLength 27 = .ok (.invokevirtual 232, 3) := dk_182 0 232 (dk_at dksX3_meanLength_1 4 rfl rfl)
theorem dX3_meanLength_30 : decode cX3_meanLength 30 = .ok (.i2d, 1) := dk_135 (dk_at dksX3_meanLength_1 7 rfl rfl)
theorem dX3_meanLength_31 : decode cX3_meanLength 31 = .ok (.iload_n 1, 1) := dk_27 (dk_at dksX3_meanLength_1 8 rfl rfl)
theorem dX3_meanLength_32 : decode cX3_meanLength 32 = .ok (.i2d, 1) := dk_135 (dk_at dksX3_meanLength_1 9 rfl rfl)
theorem dX3_meanLength_33 : decode cX3_meanLength 33 = .ok (.ddiv, 1) := dk_111 (dk_at dksX3_meanLength_1 10 rfl rfl)
theorem dX3_meanLength_34 : decode cX3_meanLength 34 = .ok (.dreturn, 1) := dk_175 (dk_at dksX3_meanLength_1 11 rfl rfl)
abbrev cX3_letShare : ByteArray := prog_16_method_87_code
def yX3_letShare : MethodName := ⟨RX3, "letShare", "(I)F"⟩
def dkwX3_letShare_1 : List UInt8 := [167, 0, 12, 42, 27, 182, 0, 197, 134, 18, 241, 110, 174]
abbrev dktX3_letShare_1 : List UInt8 := dkwX3_letShare_1 ++ []
def dkwX3_letShare_0 : List UInt8 := [42, 42, 27, 182, 0, 109, 154, 0, 7, 4, 167, 0, 4, 3, 4, 182, 0, 91, 153, 0, 7, 11]
abbrev dktX3_letShare_0 : List UInt8 := dkwX3_letShare_0 ++ dktX3_letShare_1
theorem dksX3_letShare_0 : cX3_letShare.data.toList.drop 0 = dktX3_letShare_0 := by decide +kernel
theorem dksX3_letShare_1 : cX3_letShare.data.toList.drop 22 = dktX3_letShare_1 := dk_seg dksX3_letShare_0 22 rfl rfl
theorem dX3_letShare_0 : decode cX3_letShare 0 = .ok (.aload_n 0, 1) := dk_42 (dk_at dksX3_letShare_0 0 rfl rfl)
theorem dX3_letShare_1 : decode cX3_letShare 1 = .ok (.aload_n 0, 1) := dk_42 (dk_at dksX3_letShare_0 1 rfl rfl)
theorem dX3_letShare_2 : decode cX3_letShare 2 = .ok (.iload_n 1, 1) := dk_27 (dk_at dksX3_letShare_0 2 rfl rfl)
theorem dX3_letShare_3 : decode cX3_letShare 3 = .ok (.invokevirtual 109, 3) := dk_182 0 109 (dk_at dksX3_letShare_0 3 rfl rfl)
theorem dX3_letShare_6 : decode cX3_letShare 6 = .ok (.ifCond .ne 7, 3) := dk_154 0 7 (dk_at dksX3_letShare_0 6 rfl rfl)
theorem dX3_letShare_9 : decode cX3_letShare 9 = .ok (.iconst 1, 1) := dk_4 (dk_at dksX3_letShare_0 9 rfl rfl)
theorem dX3_letShare_10 : decode cX3_letShare 10 = .ok (.goto 4, 3) := dk_167 0 4 (dk_at dksX3_letShare_0 10 rfl rfl)
theorem dX3_letShare_13 : decode cX3_letShare 13 = .ok (.iconst 0, 1) := dk_3 (dk_at dksX3_letShare_0 13 rfl rfl)
theorem dX3_letShare_14 : decode cX3_letShare 14 = .ok (.iconst 1, 1) := dk_4 (dk_at dksX3_letShare_0 14 rfl rfl)
theorem dX3_letShare_15 : decode cX3_letShare 15 = .ok (.invokevirtual 91, 3) := dk_182 0 91 (dk_at dksX3_letShare_0 15 rfl rfl)
theorem dX3_letShare_18 : decode cX3_letShare 18 = .ok (.ifCond .eq 7, 3) := dk_153 0 7 (dk_at dksX3_letShare_0 18 rfl rfl)
theorem dX3_letShare_21 : decode cX3_letShare 21 = .ok (.fconst 0, 1) := dk_11 (dk_at dksX3_letShare_0 21 rfl rfl)
theorem dX3_letShare_22 : decode cX3_letShare 22 = .ok (.goto 12, 3) := dk_167 0 12 (dk_at dksX3_letShare_1 0 rfl rfl)
theorem dX3_letShare_25 : decode cX3_letShare 25 = .ok (.aload_n 0, 1) := dk_42 (dk_at dksX3_letShare_1 3 rfl rfl)
theorem dX3_letShare_26 : decode cX3_letShare 26 = .ok (.iload_n 1, 1) := dk_27 (dk_at dksX3_letShare_1 4 rfl rfl)
theorem dX3_letShare_27 : decode cX3_letShare 27 = .ok (.invokevirtual 197, 3) := dk_182 0 197 (dk_at dksX3_letShare_1 5 rfl rfl)
theorem dX3_letShare_30 : decode cX3_letShare 30 = .ok (.i2f, 1) := dk_134 (dk_at dksX3_letShare_1 8 rfl rfl)
theorem dX3_letShare_31 : decode cX3_letShare 31 = .ok (.ldc 241, 2) := dk_18 241 (dk_at dksX3_letShare_1 9 rfl rfl)
theorem dX3_letShare_33 : decode cX3_letShare 33 = .ok (.fdiv, 1) := dk_110 (dk_at dksX3_letShare_1 11 rfl rfl)
theorem dX3_letShare_34 : decode cX3_letShare 34 = .ok (.freturn, 1) := dk_174 (dk_at dksX3_letShare_1 12 rfl rfl)
abbrev cX3_type : ByteArray := prog_16_method_88_code
def yX3_type : MethodName := ⟨RX3, "type", "(C)I"⟩
def dkwX3_type_2 : List UInt8 := [172]
abbrev dktX3_type_2 : List UInt8 := dkwX3_type_2 ++ []
def dkwX3_type_1 : List UInt8 := [42, 180, 0, 35, 42, 180, 0, 238, 27, 79, 42, 89, 180, 0, 238, 4, 96, 181, 0, 238, 42, 180, 0, 238]
abbrev dktX3_type_1 : List UInt8 := dkwX3_type_1 ++ dktX3_type_2
def dkwX3_type_0 : List UInt8 := [42, 42, 180, 0, 238, 16, 60, 160, 0, 7, 4, 167, 0, 4, 3, 4, 182, 0, 91, 153, 0, 5, 3, 172]
abbrev dktX3_type_0 : List UInt8 := dkwX3_type_0 ++ dktX3_type_1
theorem dksX3_type_0 : cX3_type.data.toList.drop 0 = dktX3_type_0 := by decide +kernel
theorem dksX3_type_1 : cX3_type.data.toList.drop 24 = dktX3_type_1 := dk_seg dksX3_type_0 24 rfl rfl
theorem dksX3_type_2 : cX3_type.data.toList.drop 48 = dktX3_type_2 := dk_seg dksX3_type_1 24 rfl rfl
theorem dX3_type_0 : decode cX3_type 0 = .ok (.aload_n 0, 1) := dk_42 (dk_at dksX3_type_0 0 rfl rfl)
theorem dX3_type_1 : decode cX3_type 1 = .ok (.aload_n 0, 1) := dk_42 (dk_at dksX3_type_0 1 rfl rfl)
theorem dX3_type_2 : decode cX3_type 2 = .ok (.getfield 238, 3) := dk_180 0 238 (dk_at dksX3_type_0 2 rfl rfl)
theorem dX3_type_5 : decode cX3_type 5 = .ok (.bipush 60, 2) := dk_16 60 (dk_at dksX3_type_0 5 rfl rfl)
theorem dX3_type_7 : decode cX3_type 7 = .ok (.if_icmp .ne 7, 3) := dk_160 0 7 (dk_at dksX3_type_0 7 rfl rfl)
theorem dX3_type_10 : decode cX3_type 10 = .ok (.iconst 1, 1) := dk_4 (dk_at dksX3_type_0 10 rfl rfl)
theorem dX3_type_11 : decode cX3_type 11 = .ok (.goto 4, 3) := dk_167 0 4 (dk_at dksX3_type_0 11 rfl rfl)
theorem dX3_type_14 : decode cX3_type 14 = .ok (.iconst 0, 1) := dk_3 (dk_at dksX3_type_0 14 rfl rfl)
theorem dX3_type_15 : decode cX3_type 15 = .ok (.iconst 1, 1) := dk_4 (dk_at dksX3_type_0 15 rfl rfl)
theorem dX3_type_16 : decode cX3_type 16 = .ok (.invokevirtual 91, 3) := dk_182 0 91 (dk_at dksX3_type_0 16 rfl rfl)
theorem dX3_type_19 : decode cX3_type 19 = .ok (.ifCond .eq 5, 3) := dk_153 0 5 (dk_at dksX3_type_0 19 rfl rfl)
theorem dX3_type_22 : decode cX3_type 22 = .ok (.iconst 0, 1) := dk_3 (dk_at dksX3_type_0 22 rfl rfl)
theorem dX3_type_23 : decode cX3_type 23 = .ok (.ireturn, 1) := dk_172 (dk_at dksX3_type_0 23 rfl rfl)
theorem dX3_type_24 : decode cX3_type 24 = .ok (.aload_n 0, 1) := dk_42 (dk_at dksX3_type_1 0 rfl rfl)
theorem dX3_type_25 : decode cX3_type 25 = .ok (.getfield 35, 3) := dk_180 0 35 (dk_at dksX3_type_1 1 rfl rfl)
theorem dX3_type_28 : decode cX3_type 28 = .ok (.aload_n 0, 1) := dk_42 (dk_at dksX3_type_1 4 rfl rfl)
theorem dX3_type_29 : decode cX3_type 29 = .ok (.getfield 238, 3) := dk_180 0 238 (dk_at dksX3_type_1 5 rfl rfl)
theorem dX3_type_32 : decode cX3_type 32 = .ok (.iload_n 1, 1) := dk_27 (dk_at dksX3_type_1 8 rfl rfl)
theorem dX3_type_33 : decode cX3_type 33 = .ok (.iastore, 1) := dk_79 (dk_at dksX3_type_1 9 rfl rfl)
theorem dX3_type_34 : decode cX3_type 34 = .ok (.aload_n 0, 1) := dk_42 (dk_at dksX3_type_1 10 rfl rfl)
theorem dX3_type_35 : decode cX3_type 35 = .ok (.dup, 1) := dk_89 (dk_at dksX3_type_1 11 rfl rfl)
theorem dX3_type_36 : decode cX3_type 36 = .ok (.getfield 238, 3) := dk_180 0 238 (dk_at dksX3_type_1 12 rfl rfl)
theorem dX3_type_39 : decode cX3_type 39 = .ok (.iconst 1, 1) := dk_4 (dk_at dksX3_type_1 15 rfl rfl)
theorem dX3_type_40 : decode cX3_type 40 = .ok (.iadd, 1) := dk_96 (dk_at dksX3_type_1 16 rfl rfl)
theorem dX3_type_41 : decode cX3_type 41 = .ok (.putfield 238, 3) := dk_181 0 238 (dk_at dksX3_type_1 17 rfl rfl)
theorem dX3_type_44 : decode cX3_type 44 = .ok (.aload_n 0, 1) := dk_42 (dk_at dksX3_type_1 20 rfl rfl)
theorem dX3_type_45 : decode cX3_type 45 = .ok (.getfield 238, 3) := dk_180 0 238 (dk_at dksX3_type_1 21 rfl rfl)
theorem dX3_type_48 : decode cX3_type 48 = .ok (.ireturn, 1) := dk_172 (dk_at dksX3_type_2 0 rfl rfl)
abbrev cX3_read : ByteArray := prog_16_method_101_code
def yX3_read : MethodName := ⟨RX3, "read", "()I"⟩
def dkwX3_read_6 : List UInt8 := [167, 255, 157, 42, 42, 180, 1, 32, 5, 182, 0, 99, 172]
abbrev dktX3_read_6 : List UInt8 := dkwX3_read_6 ++ []
def dkwX3_read_5 : List UInt8 := [42, 180, 0, 9, 3, 184, 0, 44, 42, 5, 181, 0, 41, 42, 21, 4, 5, 182, 0, 99, 172, 132, 2, 1]
abbrev dktX3_read_5 : List UInt8 := dkwX3_read_5 ++ dktX3_read_6
def dkwX3_read_4 : List UInt8 := [42, 42, 180, 0, 41, 16, 9, 160, 0, 7, 4, 167, 0, 4, 3, 28, 182, 1, 56, 42, 180, 0, 13, 3]
abbrev dktX3_read_4 : List UInt8 := dkwX3_read_4 ++ dktX3_read_5
def dkwX3_read_3 : List UInt8 := [182, 0, 91, 153, 0, 7, 3, 167, 0, 8, 42, 29, 182, 1, 53, 54, 4, 42, 180, 0, 41, 153, 0, 48]
abbrev dktX3_read_3 : List UInt8 := dkwX3_read_3 ++ dktX3_read_4
def dkwX3_read_2 : List UInt8 := [162, 0, 97, 8, 28, 104, 62, 42, 42, 29, 182, 1, 50, 154, 0, 7, 4, 167, 0, 4, 3, 4]
abbrev dktX3_read_2 : List UInt8 := dkwX3_read_2 ++ dktX3_read_3
def dkwX3_read_1 : List UInt8 := [153, 0, 13, 42, 42, 180, 0, 242, 181, 0, 22, 3, 172, 42, 182, 0, 88, 3, 61, 28, 42, 180, 1, 32]
abbrev dktX3_read_1 : List UInt8 := dkwX3_read_1 ++ dktX3_read_2
def dkwX3_read_0 : List UInt8 := [42, 182, 1, 47, 60, 42, 3, 181, 0, 238, 42, 27, 154, 0, 7, 4, 167, 0, 4, 3, 4, 182, 0, 91]
abbrev dktX3_read_0 : List UInt8 := dkwX3_read_0 ++ dktX3_read_1
theorem dksX3_read_0 : cX3_read.data.toList.drop 0 = dktX3_read_0 := by decide +kernel
theorem dksX3_read_1 : cX3_read.data.toList.drop 24 = dktX3_read_1 := dk_seg dksX3_read_0 24 rfl rfl
theorem dksX3_read_2 : cX3_read.data.toList.drop 48 = dktX3_read_2 := dk_seg dksX3_read_1 24 rfl rfl
theorem dksX3_read_3 : cX3_read.data.toList.drop 70 = dktX3_read_3 := dk_seg dksX3_read_2 22 rfl rfl
theorem dksX3_read_4 : cX3_read.data.toList.drop 94 = dktX3_read_4 := dk_seg dksX3_read_3 24 rfl rfl
theorem dksX3_read_5 : cX3_read.data.toList.drop 118 = dktX3_read_5 := dk_seg dksX3_read_4 24 rfl rfl
theorem dksX3_read_6 : cX3_read.data.toList.drop 142 = dktX3_read_6 := dk_seg dksX3_read_5 24 rfl rfl
theorem dX3_read_0 : decode cX3_read 0 = .ok (.aload_n 0, 1) := dk_42 (dk_at dksX3_read_0 0 rfl rfl)
theorem dX3_read_1 : decode cX3_read 1 = .ok (.invokevirtual 303, 3) := dk_182 1 47 (dk_at dksX3_read_0 1 rfl rfl)
theorem dX3_read_4 : decode cX3_read 4 = .ok (.istore_n 1, 1) := dk_60 (dk_at dksX3_read_0 4 rfl rfl)
theorem dX3_read_5 : decode cX3_read 5 = .ok (.aload_n 0, 1) := dk_42 (dk_at dksX3_read_0 5 rfl rfl)
theorem dX3_read_6 : decode cX3_read 6 = .ok (.iconst 0, 1) := dk_3 (dk_at dksX3_read_0 6 rfl rfl)
theorem dX3_read_7 : decode cX3_read 7 = .ok (.putfield 238, 3) := dk_181 0 238 (dk_at dksX3_read_0 7 rfl rfl)
theorem dX3_read_10 : decode cX3_read 10 = .ok (.aload_n 0, 1) := dk_42 (dk_at dksX3_read_0 10 rfl rfl)
theorem dX3_read_11 : decode cX3_read 11 = .ok (.iload_n 1, 1) := dk_27 (dk_at dksX3_read_0 11 rfl rfl)
theorem dX3_read_12 : decode cX3_read 12 = .ok (.ifCond .ne 7, 3) := dk_154 0 7 (dk_at dksX3_read_0 12 rfl rfl)
theorem dX3_read_15 : decode cX3_read 15 = .ok (.iconst 1, 1) := dk_4 (dk_at dksX3_read_0 15 rfl rfl)
theorem dX3_read_16 : decode cX3_read 16 = .ok (.goto 4, 3) := dk_167 0 4 (dk_at dksX3_read_0 16 rfl rfl)
theorem dX3_read_19 : decode cX3_read 19 = .ok (.iconst 0, 1) := dk_3 (dk_at dksX3_read_0 19 rfl rfl)
theorem dX3_read_20 : decode cX3_read 20 = .ok (.iconst 1, 1) := dk_4 (dk_at dksX3_read_0 20 rfl rfl)
theorem dX3_read_21 : decode cX3_read 21 = .ok (.invokevirtual 91, 3) := dk_182 0 91 (dk_at dksX3_read_0 21 rfl rfl)
theorem dX3_read_24 : decode cX3_read 24 = .ok (.ifCond .eq 13, 3) := dk_153 0 13 (dk_at dksX3_read_1 0 rfl rfl)
theorem dX3_read_27 : decode cX3_read 27 = .ok (.aload_n 0, 1) := dk_42 (dk_at dksX3_read_1 3 rfl rfl)
theorem dX3_read_28 : decode cX3_read 28 = .ok (.aload_n 0, 1) := dk_42 (dk_at dksX3_read_1 4 rfl rfl)
theorem dX3_read_29 : decode cX3_read 29 = .ok (.getfield 242, 3) := dk_180 0 242 (dk_at dksX3_read_1 5 rfl rfl)
theorem dX3_read_32 : decode cX3_read 32 = .ok (.putfield 22, 3) := dk_181 0 22 (dk_at dksX3_read_1 8 rfl rfl)
theorem dX3_read_35 : decode cX3_read 35 = .ok (.iconst 0, 1) := dk_3 (dk_at dksX3_read_1 11 rfl rfl)
theorem dX3_read_36 : decode cX3_read 36 = .ok (.ireturn, 1) := dk_172 (dk_at dksX3_read_1 12 rfl rfl)
theorem dX3_read_37 : decode cX3_read 37 = .ok (.aload_n 0, 1) := dk_42 (dk_at dksX3_read_1 13 rfl rfl)
theorem dX3_read_38 : decode cX3_read 38 = .ok (.invokevirtual 88, 3) := dk_182 0 88 (dk_at dksX3_read_1 14 rfl rfl)
theorem dX3_read_41 : decode cX3_read 41 = .ok (.iconst 0, 1) := dk_3 (dk_at dksX3_read_1 17 rfl rfl)
theorem dX3_read_42 : decode cX3_read 42 = .ok (.istore_n 2, 1) := dk_61 (dk_at dksX3_read_1 18 rfl rfl)
theorem dX3_read_43 : decode cX3_read 43 = .ok (.iload_n 2, 1) := dk_28 (dk_at dksX3_read_1 19 rfl rfl)
theorem dX3_read_44 : decode cX3_read 44 = .ok (.aload_n 0, 1) := dk_42 (dk_at dksX3_read_1 20 rfl rfl)
theorem dX3_read_45 : decode cX3_read 45 = .ok (.getfield 288, 3) := dk_180 1 32 (dk_at dksX3_read_1 21 rfl rfl)
theorem dX3_read_48 : decode cX3_read 48 = .ok (.if_icmp .ge 97, 3) := dk_162 0 97 (dk_at dksX3_read_2 0 rfl rfl)
theorem dX3_read_51 : decode cX3_read 51 = .ok (.iconst 5, 1) := dk_8 (dk_at dksX3_read_2 3 rfl rfl)
theorem dX3_read_52 : decode cX3_read 52 = .ok (.iload_n 2, 1) := dk_28 (dk_at dksX3_read_2 4 rfl rfl)
theorem dX3_read_53 : decode cX3_read 53 = .ok (.imul, 1) := dk_104 (dk_at dksX3_read_2 5 rfl rfl)
theorem dX3_read_54 : decode cX3_read 54 = .ok (.istore_n 3, 1) := dk_62 (dk_at dksX3_read_2 6 rfl rfl)
theorem dX3_read_55 : decode cX3_read 55 = .ok (.aload_n 0, 1) := dk_42 (dk_at dksX3_read_2 7 rfl rfl)
theorem dX3_read_56 : decode cX3_read 56 = .ok (.aload_n 0, 1) := dk_42 (dk_at dksX3_read_2 8 rfl rfl)
theorem dX3_read_57 : decode cX3_read 57 = .ok (.iload_n 3, 1) := dk_29 (dk_at dksX3_read_2 9 rfl rfl)
theorem dX3_read_58 : decode cX3_read 58 = .ok (.invokevirtual 306, 3) := dk_182 1 50 (dk_at dksX3_read_2 10 rfl rfl)
theorem dX3_read_61 : decode cX3_read 61 = .ok (.ifCond .ne 7, 3) := dk_154 0 7 (dk_at dksX3_read_2 13 rfl rfl)
theorem dX3_read_64 : decode cX3_read 64 = .ok (.iconst 1, 1) := dk_4 (dk_at dksX3_read_2 16 rfl rfl)
theorem dX3_read_65 : decode cX3_read 65 = .ok (.goto 4, 3) := dk_167 0 4 (dk_at dksX3_read_2 17 rfl rfl)
theorem dX3_read_68 : decode cX3_read 68 = .ok (.iconst 0, 1) := dk_3 (dk_at dksX3_read_2 20 rfl rfl)
theorem dX3_read_69 : decode cX3_read 69 = .ok (.iconst 1, 1) := dk_4 (dk_at dksX3_read_2 21 rfl rfl)
theorem dX3_read_70 : decode cX3_read 70 = .ok (.invokevirtual 91, 3) := dk_182 0 91 (dk_at dksX3_read_3 0 rfl rfl)
theorem dX3_read_73 : decode cX3_read 73 = .ok (.ifCond .eq 7, 3) := dk_153 0 7 (dk_at dksX3_read_3 3 rfl rfl)
theorem dX3_read_76 : decode cX3_read 76 = .ok (.iconst 0, 1) := dk_3 (dk_at dksX3_read_3 6 rfl rfl)
theorem dX3_read_77 : decode cX3_read 77 = .ok (.goto 8, 3) := dk_167 0 8 (dk_at dksX3_read_3 7 rfl rfl)
theorem dX3_read_80 : decode cX3_read 80 = .ok (.aload_n 0, 1) := dk_42 (dk_at dksX3_read_3 10 rfl rfl)
theorem dX3_read_81 : decode cX3_read 81 = .ok (.iload_n 3, 1) := dk_29 (dk_at dksX3_read_3 11 rfl rfl)
theorem dX3_read_82 : decode cX3_read 82 = .ok (.invokevirtual 309, 3) := dk_182 1 53 (dk_at dksX3_read_3 12 rfl rfl)
theorem dX3_read_85 : decode cX3_read 85 = .ok (.istore 4, 2) := dk_54 4 (dk_at dksX3_read_3 15 rfl rfl)
theorem dX3_read_87 : decode cX3_read 87 = .ok (.aload_n 0, 1) := dk_42 (dk_at dksX3_read_3 17 rfl rfl)
theorem dX3_read_88 : decode cX3_read 88 = .ok (.getfield 41, 3) := dk_180 0 41 (dk_at dksX3_read_3 18 rfl rfl)
theorem dX3_read_91 : decode cX3_read 91 = .ok (.ifCond .eq 48, 3) := dk_153 0 48 (dk_at dksX3_read_3 21 rfl rfl)
theorem dX3_read_94 : decode cX3_read 94 = .ok (.aload_n 0, 1) := dk_42 (dk_at dksX3_read_4 0 rfl rfl)
theorem dX3_read_95 : decode cX3_read 95 = .ok (.aload_n 0, 1) := dk_42 (dk_at dksX3_read_4 1 rfl rfl)
theorem dX3_read_96 : decode cX3_read 96 = .ok (.getfield 41, 3) := dk_180 0 41 (dk_at dksX3_read_4 2 rfl rfl)
theorem dX3_read_99 : decode cX3_read 99 = .ok (.bipush 9, 2) := dk_16 9 (dk_at dksX3_read_4 5 rfl rfl)
theorem dX3_read_101 : decode cX3_read 101 = .ok (.if_icmp .ne 7, 3) := dk_160 0 7 (dk_at dksX3_read_4 7 rfl rfl)
theorem dX3_read_104 : decode cX3_read 104 = .ok (.iconst 1, 1) := dk_4 (dk_at dksX3_read_4 10 rfl rfl)
theorem dX3_read_105 : decode cX3_read 105 = .ok (.goto 4, 3) := dk_167 0 4 (dk_at dksX3_read_4 11 rfl rfl)
theorem dX3_read_108 : decode cX3_read 108 = .ok (.iconst 0, 1) := dk_3 (dk_at dksX3_read_4 14 rfl rfl)
theorem dX3_read_109 : decode cX3_read 109 = .ok (.iload_n 2, 1) := dk_28 (dk_at dksX3_read_4 15 rfl rfl)
theorem dX3_read_110 : decode cX3_read 110 = .ok (.invokevirtual 312, 3) := dk_182 1 56 (dk_at dksX3_read_4 16 rfl rfl)
theorem dX3_read_113 : decode cX3_read 113 = .ok (.aload_n 0, 1) := dk_42 (dk_at dksX3_read_4 19 rfl rfl)
theorem dX3_read_114 : decode cX3_read 114 = .ok (.getfield 13, 3) := dk_180 0 13 (dk_at dksX3_read_4 20 rfl rfl)
theorem dX3_read_117 : decode cX3_read 117 = .ok (.iconst 0, 1) := dk_3 (dk_at dksX3_read_4 23 rfl rfl)
theorem dX3_read_118 : decode cX3_read 118 = .ok (.aload_n 0, 1) := dk_42 (dk_at dksX3_read_5 0 rfl rfl)
theorem dX3_read_119 : decode cX3_read 119 = .ok (.getfield 9, 3) := dk_180 0 9 (dk_at dksX3_read_5 1 rfl rfl)
theorem dX3_read_122 : decode cX3_read 122 = .ok (.iconst 0, 1) := dk_3 (dk_at dksX3_read_5 4 rfl rfl)
theorem dX3_read_123 : decode cX3_read 123 = .ok (.invokestatic 44, 3) := dk_184 0 44 (dk_at dksX3_read_5 5 rfl rfl)
theorem dX3_read_126 : decode cX3_read 126 = .ok (.aload_n 0, 1) := dk_42 (dk_at dksX3_read_5 8 rfl rfl)
theorem dX3_read_127 : decode cX3_read 127 = .ok (.iconst 2, 1) := dk_5 (dk_at dksX3_read_5 9 rfl rfl)
theorem dX3_read_128 : decode cX3_read 128 = .ok (.putfield 41, 3) := dk_181 0 41 (dk_at dksX3_read_5 10 rfl rfl)
theorem dX3_read_131 : decode cX3_read 131 = .ok (.aload_n 0, 1) := dk_42 (dk_at dksX3_read_5 13 rfl rfl)
theorem dX3_read_132 : decode cX3_read 132 = .ok (.iload 4, 2) := dk_21 4 (dk_at dksX3_read_5 14 rfl rfl)
theorem dX3_read_134 : decode cX3_read 134 = .ok (.iconst 2, 1) := dk_5 (dk_at dksX3_read_5 16 rfl rfl)
theorem dX3_read_135 : decode cX3_read 135 = .ok (.invokevirtual 99, 3) := dk_182 0 99 (dk_at dksX3_read_5 17 rfl rfl)
theorem dX3_read_138 : decode cX3_read 138 = .ok (.ireturn, 1) := dk_172 (dk_at dksX3_read_5 20 rfl rfl)
theorem dX3_read_139 : decode cX3_read 139 = .ok (.iinc 2 1, 3) := dk_132 2 1 (dk_at dksX3_read_5 21 rfl rfl)
theorem dX3_read_142 : decode cX3_read 142 = .ok (.goto (-99), 3) := dk_167 255 157 (dk_at dksX3_read_6 0 rfl rfl)
theorem dX3_read_145 : decode cX3_read 145 = .ok (.aload_n 0, 1) := dk_42 (dk_at dksX3_read_6 3 rfl rfl)
theorem dX3_read_146 : decode cX3_read 146 = .ok (.aload_n 0, 1) := dk_42 (dk_at dksX3_read_6 4 rfl rfl)
theorem dX3_read_147 : decode cX3_read 147 = .ok (.getfield 288, 3) := dk_180 1 32 (dk_at dksX3_read_6 5 rfl rfl)
theorem dX3_read_150 : decode cX3_read 150 = .ok (.iconst 2, 1) := dk_5 (dk_at dksX3_read_6 8 rfl rfl)
theorem dX3_read_151 : decode cX3_read 151 = .ok (.invokevirtual 99, 3) := dk_182 0 99 (dk_at dksX3_read_6 9 rfl rfl)
theorem dX3_read_154 : decode cX3_read 154 = .ok (.ireturn, 1) := dk_172 (dk_at dksX3_read_6 12 rfl rfl)
abbrev cX3_isText : ByteArray := prog_16_method_97_code
def yX3_isText : MethodName := ⟨RX3, "isText", "()Z"⟩
def dkwX3_isText_2 : List UInt8 := [180, 0, 238, 160, 0, 7, 4, 167, 0, 4, 3, 172]
abbrev dktX3_isText_2 : List UInt8 := dkwX3_isText_2 ++ []
def dkwX3_isText_1 : List UInt8 := [182, 1, 19, 153, 0, 11, 42, 182, 1, 41, 60, 167, 255, 238, 27, 153, 0, 18, 42, 180, 0, 242, 42]
abbrev dktX3_isText_1 : List UInt8 := dkwX3_isText_1 ++ dktX3_isText_2
def dkwX3_isText_0 : List UInt8 := [42, 3, 181, 0, 242, 42, 3, 181, 1, 32, 42, 182, 1, 41, 60, 27, 153, 0, 20, 42, 16, 59]
abbrev dktX3_isText_0 : List UInt8 := dkwX3_isText_0 ++ dktX3_isText_1
theorem dksX3_isText_0 : cX3_isText.data.toList.drop 0 = dktX3_isText_0 := by decide +kernel
theorem dksX3_isText_1 : cX3_isText.data.toList.drop 22 = dktX3_isText_1 := dk_seg dksX3_isText_0 22 rfl rfl
theorem dksX3_isText_2 : cX3_isText.data.toList.drop 45 = dktX3_isText_2 := dk_seg dksX3_isText_1 23 rfl rfl
theorem dX3_isText_0 : decode cX3_isText 0 = .ok (.aload_n 0, 1) := dk_42 (dk_at dksX3_isText_0 0 rfl rfl)
theorem dX3_isText_1 : decode cX3_isText 1 = .ok (.iconst 0, 1) := dk_3 (dk_at dksX3_isText_0 1 rfl rfl)
theorem dX3_isText_2 : decode cX3_isText 2 = .ok (.putfield 242, 3) := dk_181 0 242 (dk_at dksX3_isText_0 2 rfl rfl)
theorem dX3_isText_5 : decode cX3_isText 5 = .ok (.aload_n 0, 1) := dk_42 (dk_at dksX3_isText_0 5 rfl rfl)
theorem dX3_isText_6 : decode cX3_isText 6 = .ok (.iconst 0, 1) := dk_3 (dk_at dksX3_isText_0 6 rfl rfl)
theorem dX3_isText_7 : decode cX3_isText 7 = .ok (.putfield 288, 3) := dk_181 1 32 (dk_at dksX3_isText_0 7 rfl rfl)
theorem dX3_isText_10 : decode cX3_isText 10 = .ok (.aload_n 0, 1) := dk_42 (dk_at dksX3_isText_0 10 rfl rfl)
theorem dX3_isText_11 : decode cX3_isText 11 = .ok (.invokevirtual 297, 3) := dk_182 1 41 (dk_at dksX3_isText_0 11 rfl rfl)
theorem dX3_isText_14 : decode cX3_isText 14 = .ok (.istore_n 1, 1) := dk_60 (dk_at dksX3_isText_0 14 rfl rfl)
theorem dX3_isText_15 : decode cX3_isText 15 = .ok (.iload_n 1, 1) := dk_27 (dk_at dksX3_isText_0 15 rfl rfl)
theorem dX3_isText_16 : decode cX3_isText 16 = .ok (.ifCond .eq 20, 3) := dk_153 0 20 (dk_at dksX3_isText_0 16 rfl rfl)
theorem dX3_isText_19 : decode cX3_isText 19 = .ok (.aload_n 0, 1) := dk_42 (dk_at dksX3_isText_0 19 rfl rfl)
theorem dX3_isText_20 : decode cX3_isText 20 = .ok (.bipush 59, 2) := dk_16 59 (dk_at dksX3_isText_0 20 rfl rfl)
theorem dX3_isText_22 : decode cX3_isText 22 = .ok (.invokevirtual 275, 3) := dk_182 1 19 (dk_at dksX3_isText_1 0 rfl rfl)
theorem dX3_isText_25 : decode cX3_isText 25 = .ok (.ifCond .eq 11, 3) := dk_153 0 11 (dk_at dksX3_isText_1 3 rfl rfl)
theorem dX3_isText_28 : decode cX3_isText 28 = .ok (.aload_n 0, 1) := dk_42 (dk_at dksX3_isText_1 6 rfl rfl)
theorem dX3_isText_29 : decode cX3_isText 29 = .ok (.invokevirtual 297, 3) := dk_182 1 41 (dk_at dksX3_isText_1 7 rfl rfl)
theorem dX3_isText_32 : decode cX3_isText 32 = .ok (.istore_n 1, 1) := dk_60 (dk_at dksX3_isText_1 10 rfl rfl)
theorem dX3_isText_33 : decode cX3_isText 33 = .ok (.goto (-18), 3) := dk_167 255 238 (dk_at dksX3_isText_1 11 rfl rfl)
theorem dX3_isText_36 : decode cX3_isText 36 = .ok (.iload_n 1, 1) := dk_27 (dk_at dksX3_isText_1 14 rfl rfl)
theorem dX3_isText_37 : decode cX3_isText 37 = .ok (.ifCond .eq 18, 3) := dk_153 0 18 (dk_at dksX3_isText_1 15 rfl rfl)
theorem dX3_isText_40 : decode cX3_isText 40 = .ok (.aload_n 0, 1) := dk_42 (dk_at dksX3_isText_1 18 rfl rfl)
theorem dX3_isText_41 : decode cX3_isText 41 = .ok (.getfield 242, 3) := dk_180 0 242 (dk_at dksX3_isText_1 19 rfl rfl)
theorem dX3_isText_44 : decode cX3_isText 44 = .ok (.aload_n 0, 1) := dk_42 (dk_at dksX3_isText_1 22 rfl rfl)
theorem dX3_isText_45 : decode cX3_isText 45 = .ok (.getfield 238, 3) := dk_180 0 238 (dk_at dksX3_isText_2 0 rfl rfl)
theorem dX3_isText_48 : decode cX3_isText 48 = .ok (.if_icmp .ne 7, 3) := dk_160 0 7 (dk_at dksX3_isText_2 3 rfl rfl)
theorem dX3_isText_51 : decode cX3_isText 51 = .ok (.iconst 1, 1) := dk_4 (dk_at dksX3_isText_2 6 rfl rfl)
theorem dX3_isText_52 : decode cX3_isText 52 = .ok (.goto 4, 3) := dk_167 0 4 (dk_at dksX3_isText_2 7 rfl rfl)
theorem dX3_isText_55 : decode cX3_isText 55 = .ok (.iconst 0, 1) := dk_3 (dk_at dksX3_isText_2 10 rfl rfl)
theorem dX3_isText_56 : decode cX3_isText 56 = .ok (.ireturn, 1) := dk_172 (dk_at dksX3_isText_2 11 rfl rfl)
abbrev cX3_readsCommand : ByteArray := prog_16_method_96_code
def yX3_readsCommand : MethodName := ⟨RX3, "readsCommand", "()Z"⟩
def dkwX3_readsCommand_8 : List UInt8 := [172, 42, 6, 27, 4, 96, 182, 1, 25, 172]
abbrev dktX3_readsCommand_8 : List UInt8 := dkwX3_readsCommand_8 ++ []
def dkwX3_readsCommand_7 : List UInt8 := [182, 1, 19, 153, 0, 18, 42, 6, 27, 5, 96, 182, 1, 25, 153, 0, 7, 4, 167, 0, 4, 3, 172, 4]
abbrev dktX3_readsCommand_7 : List UInt8 := dkwX3_readsCommand_7 ++ dktX3_readsCommand_8
def dkwX3_readsCommand_6 : List UInt8 := [3, 172, 42, 27, 4, 96, 182, 1, 38, 172, 42, 6, 27, 4, 96, 182, 1, 25, 153, 0, 27, 42, 16, 32]
abbrev dktX3_readsCommand_6 : List UInt8 := dkwX3_readsCommand_6 ++ dktX3_readsCommand_7
def dkwX3_readsCommand_5 : List UInt8 := [4, 27, 4, 96, 182, 1, 25, 153, 0, 17, 42, 27, 5, 96, 182, 1, 35, 153, 0, 7, 4, 167, 0, 4]
abbrev dktX3_readsCommand_5 : List UInt8 := dkwX3_readsCommand_5 ++ dktX3_readsCommand_6
def dkwX3_readsCommand_4 : List UInt8 := [96, 182, 1, 25, 153, 0, 17, 42, 27, 6, 96, 182, 1, 35, 153, 0, 7, 4, 167, 0, 4, 3, 172, 42]
abbrev dktX3_readsCommand_4 : List UInt8 := dkwX3_readsCommand_4 ++ dktX3_readsCommand_5
def dkwX3_readsCommand_3 : List UInt8 := [42, 4, 27, 4, 96, 182, 1, 25, 153, 0, 37, 42, 16, 32, 182, 1, 19, 153, 0, 28, 42, 4, 27, 5]
abbrev dktX3_readsCommand_3 : List UInt8 := dkwX3_readsCommand_3 ++ dktX3_readsCommand_4
def dkwX3_readsCommand_2 : List UInt8 := [170, 0, 0, 0, 0, 0, 0, 165, 0, 0, 0, 0, 0, 0, 0, 6, 0, 0, 0, 44, 0, 0, 0, 165, 0, 0, 0, 118, 0, 0, 0, 126, 0, 0, 0, 91, 0, 0, 0, 165, 0, 0, 0, 163]
abbrev dktX3_readsCommand_2 : List UInt8 := dkwX3_readsCommand_2 ++ dktX3_readsCommand_3
def dkwX3_readsCommand_1 : List UInt8 := [180, 1, 22, 79, 42, 89, 180, 1, 32, 4, 96, 181, 1, 32, 42, 180, 1, 22]
abbrev dktX3_readsCommand_1 : List UInt8 := dkwX3_readsCommand_1 ++ dktX3_readsCommand_2
def dkwX3_readsCommand_0 : List UInt8 := [42, 182, 1, 28, 154, 0, 5, 3, 172, 8, 42, 180, 1, 32, 104, 60, 42, 180, 0, 38, 27, 42]
abbrev dktX3_readsCommand_0 : List UInt8 := dkwX3_readsCommand_0 ++ dktX3_readsCommand_1
theorem dksX3_readsCommand_0 : cX3_readsCommand.data.toList.drop 0 = dktX3_readsCommand_0 := by decide +kernel
theorem dksX3_readsCommand_1 : cX3_readsCommand.data.toList.drop 22 = dktX3_readsCommand_1 := dk_seg dksX3_readsCommand_0 22 rfl rfl
theorem dksX3_readsCommand_2 : cX3_readsCommand.data.toList.drop 40 = dktX3_readsCommand_2 := dk_seg dksX3_readsCommand_1 18 rfl rfl
theorem dksX3_readsCommand_3 : cX3_readsCommand.data.toList.drop 84 = dktX3_readsCommand_3 := dk_seg dksX3_readsCommand_2 44 rfl rfl
theorem dksX3_readsCommand_4 : cX3_readsCommand.data.toList.drop 108 = dktX3_readsCommand_4 := dk_seg dksX3_readsCommand_3 24 rfl rfl
theorem dksX3_readsCommand_5 : cX3_readsCommand.data.toList.drop 132 = dktX3_readsCommand_5 := dk_seg dksX3_readsCommand_4 24 rfl rfl
theorem dksX3_readsCommand_6 : cX3_readsCommand.data.toList.drop 156 = dktX3_readsCommand_6 := dk_seg dksX3_readsCommand_5 24 rfl rfl
theorem dksX3_readsCommand_7 : cX3_readsCommand.data.toList.drop 180 = dktX3_readsCommand_7 := dk_seg dksX3_readsCommand_6 24 rfl rfl
theorem dksX3_readsCommand_8 : cX3_readsCommand.data.toList.drop 204 = dktX3_readsCommand_8 := dk_seg dksX3_readsCommand_7 24 rfl rfl
theorem dX3_readsCommand_0 : decode cX3_readsCommand 0 = .ok (.aload_n 0, 1) := dk_42 (dk_at dksX3_readsCommand_0 0 rfl rfl)
theorem dX3_readsCommand_1 : decode cX3_readsCommand 1 = .ok (.invokevirtual 284, 3) := dk_182 1 28 (dk_at dksX3_readsCommand_0 1 rfl rfl)
theorem dX3_readsCommand_4 : decode cX3_readsCommand 4 = .ok (.ifCond .ne 5, 3) := dk_154 0 5 (dk_at dksX3_readsCommand_0 4 rfl rfl)
theorem dX3_readsCommand_7 : decode cX3_readsCommand 7 = .ok (.iconst 0, 1) := dk_3 (dk_at dksX3_readsCommand_0 7 rfl rfl)
theorem dX3_readsCommand_8 : decode cX3_readsCommand 8 = .ok (.ireturn, 1) := dk_172 (dk_at dksX3_readsCommand_0 8 rfl rfl)
theorem dX3_readsCommand_9 : decode cX3_readsCommand 9 = .ok (.iconst 5, 1) := dk_8 (dk_at dksX3_readsCommand_0 9 rfl rfl)
theorem dX3_readsCommand_10 : decode cX3_readsCommand 10 = .ok (.aload_n 0, 1) := dk_42 (dk_at dksX3_readsCommand_0 10 rfl rfl)
theorem dX3_readsCommand_11 : decode cX3_readsCommand 11 = .ok (.getfield 288, 3) := dk_180 1 32 (dk_at dksX3_readsCommand_0 11 rfl rfl)
theorem dX3_readsCommand_14 : decode cX3_readsCommand 14 = .ok (.imul, 1) := dk_104 (dk_at dksX3_readsCommand_0 14 rfl rfl)
theorem dX3_readsCommand_15 : decode cX3_readsCommand 15 = .ok (.istore_n 1, 1) := dk_60 (dk_at dksX3_readsCommand_0 15 rfl rfl)
theorem dX3_readsCommand_16 : decode cX3_readsCommand 16 = .ok (.aload_n 0, 1) := dk_42 (dk_at dksX3_readsCommand_0 16 rfl rfl)
theorem dX3_readsCommand_17 : decode cX3_readsCommand 17 = .ok (.getfield 38, 3) := dk_180 0 38 (dk_at dksX3_readsCommand_0 17 rfl rfl)
theorem dX3_readsCommand_20 : decode cX3_readsCommand 20 = .ok (.iload_n 1, 1) := dk_27 (dk_at dksX3_readsCommand_0 20 rfl rfl)
theorem dX3_readsCommand_21 : decode cX3_readsCommand 21 = .ok (.aload_n 0, 1) := dk_42 (dk_at dksX3_readsCommand_0 21 rfl rfl)
theorem dX3_readsCommand_22 : decode cX3_readsCommand 22 = .ok (.getfield 278, 3) := dk_180 1 22 (dk_at dksX3_readsCommand_1 0 rfl rfl)
theorem dX3_readsCommand_25 : decode cX3_readsCommand 25 = .ok (.iastore, 1) := dk_79 (dk_at dksX3_readsCommand_1 3 rfl rfl)
theorem dX3_readsCommand_26 : decode cX3_readsCommand 26 = .ok (.aload_n 0, 1) := dk_42 (dk_at dksX3_readsCommand_1 4 rfl rfl)
theorem dX3_readsCommand_27 : decode cX3_readsCommand 27 = .ok (.dup, 1) := dk_89 (dk_at dksX3_readsCommand_1 5 rfl rfl)
theorem dX3_readsCommand_28 : decode cX3_readsCommand 28 = .ok (.getfield 288, 3) := dk_180 1 32 (dk_at dksX3_readsCommand_1 6 rfl rfl)
theorem dX3_readsCommand_31 : decode cX3_readsCommand 31 = .ok (.iconst 1, 1) := dk_4 (dk_at dksX3_readsCommand_1 9 rfl rfl)
theorem dX3_readsCommand_32 : decode cX3_readsCommand 32 = .ok (.iadd, 1) := dk_96 (dk_at dksX3_readsCommand_1 10 rfl rfl)
theorem dX3_readsCommand_33 : decode cX3_readsCommand 33 = .ok (.putfield 288, 3) := dk_181 1 32 (dk_at dksX3_readsCommand_1 11 rfl rfl)
theorem dX3_readsCommand_36 : decode cX3_readsCommand 36 = .ok (.aload_n 0, 1) := dk_42 (dk_at dksX3_readsCommand_1 14 rfl rfl)
theorem dX3_readsCommand_37 : decode cX3_readsCommand 37 = .ok (.getfield 278, 3) := dk_180 1 22 (dk_at dksX3_readsCommand_1 15 rfl rfl)
theorem dX3_readsCommand_40 : decode cX3_readsCommand 40 = .ok (.tableswitch 165 0 6 #[44, 165, 118, 126, 91, 165, 163], 44) := by decide +kernel
theorem dX3_readsCommand_84 : decode cX3_readsCommand 84 = .ok (.aload_n 0, 1) := dk_42 (dk_at dksX3_readsCommand_3 0 rfl rfl)
theorem dX3_readsCommand_85 : decode cX3_readsCommand 85 = .ok (.iconst 1, 1) := dk_4 (dk_at dksX3_readsCommand_3 1 rfl rfl)
theorem dX3_readsCommand_86 : decode cX3_readsCommand 86 = .ok (.iload_n 1, 1) := dk_27 (dk_at dksX3_readsCommand_3 2 rfl rfl)
theorem dX3_readsCommand_87 : decode cX3_readsCommand 87 = .ok (.iconst 1, 1) := dk_4 (dk_at dksX3_readsCommand_3 3 rfl rfl)
theorem dX3_readsCommand_88 : decode cX3_readsCommand 88 = .ok (.iadd, 1) := dk_96 (dk_at dksX3_readsCommand_3 4 rfl rfl)
theorem dX3_readsCommand_89 : decode cX3_readsCommand 89 = .ok (.invokevirtual 281, 3) := dk_182 1 25 (dk_at dksX3_readsCommand_3 5 rfl rfl)
theorem dX3_readsCommand_92 : decode cX3_readsCommand 92 = .ok (.ifCond .eq 37, 3) := dk_153 0 37 (dk_at dksX3_readsCommand_3 8 rfl rfl)
theorem dX3_readsCommand_95 : decode cX3_readsCommand 95 = .ok (.aload_n 0, 1) := dk_42 (dk_at dksX3_readsCommand_3 11 rfl rfl)
theorem dX3_readsCommand_96 : decode cX3_readsCommand 96 = .ok (.bipush 32, 2) := dk_16 32 (dk_at dksX3_readsCommand_3 12 rfl rfl)
theorem dX3_readsCommand_98 : decode cX3_readsCommand 98 = .ok (.invokevirtual 275, 3) := dk_182 1 19 (dk_at dksX3_readsCommand_3 14 rfl rfl)
theorem dX3_readsCommand_101 : decode cX3_readsCommand 101 = .ok (.ifCond .eq 28, 3) := dk_153 0 28 (dk_at dksX3_readsCommand_3 17 rfl rfl)
theorem dX3_readsCommand_104 : decode cX3_readsCommand 104 = .ok (.aload_n 0, 1) := dk_42 (dk_at dksX3_readsCommand_3 20 rfl rfl)
theorem dX3_readsCommand_105 : decode cX3_readsCommand 105 = .ok (.iconst 1, 1) := dk_4 (dk_at dksX3_readsCommand_3 21 rfl rfl)
theorem dX3_readsCommand_106 : decode cX3_readsCommand 106 = .ok (.iload_n 1, 1) := dk_27 (dk_at dksX3_readsCommand_3 22 rfl rfl)
theorem dX3_readsCommand_107 : decode cX3_readsCommand 107 = .ok (.iconst 2, 1) := dk_5 (dk_at dksX3_readsCommand_3 23 rfl rfl)
theorem dX3_readsCommand_108 : decode cX3_readsCommand 108 = .ok (.iadd, 1) := dk_96 (dk_at dksX3_readsCommand_4 0 rfl rfl)
theorem dX3_readsCommand_109 : decode cX3_readsCommand 109 = .ok (.invokevirtual 281, 3) := dk_182 1 25 (dk_at dksX3_readsCommand_4 1 rfl rfl)
theorem dX3_readsCommand_112 : decode cX3_readsCommand 112 = .ok (.ifCond .eq 17, 3) := dk_153 0 17 (dk_at dksX3_readsCommand_4 4 rfl rfl)
theorem dX3_readsCommand_115 : decode cX3_readsCommand 115 = .ok (.aload_n 0, 1) := dk_42 (dk_at dksX3_readsCommand_4 7 rfl rfl)
theorem dX3_readsCommand_116 : decode cX3_readsCommand 116 = .ok (.iload_n 1, 1) := dk_27 (dk_at dksX3_readsCommand_4 8 rfl rfl)
theorem dX3_readsCommand_117 : decode cX3_readsCommand 117 = .ok (.iconst 3, 1) := dk_6 (dk_at dksX3_readsCommand_4 9 rfl rfl)
theorem dX3_readsCommand_118 : decode cX3_readsCommand 118 = .ok (.iadd, 1) := dk_96 (dk_at dksX3_readsCommand_4 10 rfl rfl)
theorem dX3_readsCommand_119 : decode cX3_readsCommand 119 = .ok (.invokevirtual 291, 3) := dk_182 1 35 (dk_at dksX3_readsCommand_4 11 rfl rfl)
theorem dX3_readsCommand_122 : decode cX3_readsCommand 122 = .ok (.ifCond .eq 7, 3) := dk_153 0 7 (dk_at dksX3_readsCommand_4 14 rfl rfl)
theorem dX3_readsCommand_125 : decode cX3_readsCommand 125 = .ok (.iconst 1, 1) := dk_4 (dk_at dksX3_readsCommand_4 17 rfl rfl)
theorem dX3_readsCommand_126 : decode cX3_readsCommand 126 = .ok (.goto 4, 3) := dk_167 0 4 (dk_at dksX3_readsCommand_4 18 rfl rfl)
theorem dX3_readsCommand_129 : decode cX3_readsCommand 129 = .ok (.iconst 0, 1) := dk_3 (dk_at dksX3_readsCommand_4 21 rfl rfl)
theorem dX3_readsCommand_130 : decode cX3_readsCommand 130 = .ok (.ireturn, 1) := dk_172 (dk_at dksX3_readsCommand_4 22 rfl rfl)
theorem dX3_readsCommand_131 : decode cX3_readsCommand 131 = .ok (.aload_n 0, 1) := dk_42 (dk_at dksX3_readsCommand_4 23 rfl rfl)
theorem dX3_readsCommand_132 : decode cX3_readsCommand 132 = .ok (.iconst 1, 1) := dk_4 (dk_at dksX3_readsCommand_5 0 rfl rfl)
theorem dX3_readsCommand_133 : decode cX3_readsCommand 133 = .ok (.iload_n 1, 1) := dk_27 (dk_at dksX3_readsCommand_5 1 rfl rfl)
theorem dX3_readsCommand_134 : decode cX3_readsCommand 134 = .ok (.iconst 1, 1) := dk_4 (dk_at dksX3_readsCommand_5 2 rfl rfl)
theorem dX3_readsCommand_135 : decode cX3_readsCommand 135 = .ok (.iadd, 1) := dk_96 (dk_at dksX3_readsCommand_5 3 rfl rfl)
theorem dX3_readsCommand_136 : decode cX3_readsCommand 136 = .ok (.invokevirtual 281, 3) := dk_182 1 25 (dk_at dksX3_readsCommand_5 4 rfl rfl)
theorem dX3_readsCommand_139 : decode cX3_readsCommand 139 = .ok (.ifCond .eq 17, 3) := dk_153 0 17 (dk_at dksX3_readsCommand_5 7 rfl rfl)
theorem dX3_readsCommand_142 : decode cX3_readsCommand 142 = .ok (.aload_n 0, 1) := dk_42 (dk_at dksX3_readsCommand_5 10 rfl rfl)
theorem dX3_readsCommand_143 : decode cX3_readsCommand 143 = .ok (.iload_n 1, 1) := dk_27 (dk_at dksX3_readsCommand_5 11 rfl rfl)
theorem dX3_readsCommand_144 : decode cX3_readsCommand 144 = .ok (.iconst 2, 1) := dk_5 (dk_at dksX3_readsCommand_5 12 rfl rfl)
theorem dX3_readsCommand_145 : decode cX3_readsCommand 145 = .ok (.iadd, 1) := dk_96 (dk_at dksX3_readsCommand_5 13 rfl rfl)
theorem dX3_readsCommand_146 : decode cX3_readsCommand 146 = .ok (.invokevirtual 291, 3) := dk_182 1 35 (dk_at dksX3_readsCommand_5 14 rfl rfl)
theorem dX3_readsCommand_149 : decode cX3_readsCommand 149 = .ok (.ifCond .eq 7, 3) := dk_153 0 7 (dk_at dksX3_readsCommand_5 17 rfl rfl)
theorem dX3_readsCommand_152 : decode cX3_readsCommand 152 = .ok (.iconst 1, 1) := dk_4 (dk_at dksX3_readsCommand_5 20 rfl rfl)
theorem dX3_readsCommand_153 : decode cX3_readsCommand 153 = .ok (.goto 4, 3) := dk_167 0 4 (dk_at dksX3_readsCommand_5 21 rfl rfl)
theorem dX3_readsCommand_156 : decode cX3_readsCommand 156 = .ok (.iconst 0, 1) := dk_3 (dk_at dksX3_readsCommand_6 0 rfl rfl)
theorem dX3_readsCommand_157 : decode cX3_readsCommand 157 = .ok (.ireturn, 1) := dk_172 (dk_at dksX3_readsCommand_6 1 rfl rfl)
theorem dX3_readsCommand_158 : decode cX3_readsCommand 158 = .ok (.aload_n 0, 1) := dk_42 (dk_at dksX3_readsCommand_6 2 rfl rfl)
theorem dX3_readsCommand_159 : decode cX3_readsCommand 159 = .ok (.iload_n 1, 1) := dk_27 (dk_at dksX3_readsCommand_6 3 rfl rfl)
theorem dX3_readsCommand_160 : decode cX3_readsCommand 160 = .ok (.iconst 1, 1) := dk_4 (dk_at dksX3_readsCommand_6 4 rfl rfl)
theorem dX3_readsCommand_161 : decode cX3_readsCommand 161 = .ok (.iadd, 1) := dk_96 (dk_at dksX3_readsCommand_6 5 rfl rfl)
theorem dX3_readsCommand_162 : decode cX3_readsCommand 162 = .ok (.invokevirtual 294, 3) := dk_182 1 38 (dk_at dksX3_readsCommand_6 6 rfl rfl)
theorem dX3_readsCommand_165 : decode cX3_readsCommand 165 = .ok (.ireturn, 1) := dk_172 (dk_at dksX3_readsCommand_6 9 rfl rfl)
theorem dX3_readsCommand_166 : decode cX3_readsCommand 166 = .ok (.aload_n 0, 1) := dk_42 (dk_at dksX3_readsCommand_6 10 rfl rfl)
theorem dX3_readsCommand_167 : decode cX3_readsCommand 167 = .ok (.iconst 3, 1) := dk_6 (dk_at dksX3_readsCommand_6 11 rfl rfl)
theorem dX3_readsCommand_168 : decode cX3_readsCommand 168 = .ok (.iload_n 1, 1) := dk_27 (dk_at dksX3_readsCommand_6 12 rfl rfl)
theorem dX3_readsCommand_169 : decode cX3_readsCommand 169 = .ok (.iconst 1, 1) := dk_4 (dk_at dksX3_readsCommand_6 13 rfl rfl)
theorem dX3_readsCommand_170 : decode cX3_readsCommand 170 = .ok (.iadd, 1) := dk_96 (dk_at dksX3_readsCommand_6 14 rfl rfl)
theorem dX3_readsCommand_171 : decode cX3_readsCommand 171 = .ok (.invokevirtual 281, 3) := dk_182 1 25 (dk_at dksX3_readsCommand_6 15 rfl rfl)
theorem dX3_readsCommand_174 : decode cX3_readsCommand 174 = .ok (.ifCond .eq 27, 3) := dk_153 0 27 (dk_at dksX3_readsCommand_6 18 rfl rfl)
theorem dX3_readsCommand_177 : decode cX3_readsCommand 177 = .ok (.aload_n 0, 1) := dk_42 (dk_at dksX3_readsCommand_6 21 rfl rfl)
theorem dX3_readsCommand_178 : decode cX3_readsCommand 178 = .ok (.bipush 32, 2) := dk_16 32 (dk_at dksX3_readsCommand_6 22 rfl rfl)
theorem dX3_readsCommand_180 : decode cX3_readsCommand 180 = .ok (.invokevirtual 275, 3) := dk_182 1 19 (dk_at dksX3_readsCommand_7 0 rfl rfl)
theorem dX3_readsCommand_183 : decode cX3_readsCommand 183 = .ok (.ifCond .eq 18, 3) := dk_153 0 18 (dk_at dksX3_readsCommand_7 3 rfl rfl)
theorem dX3_readsCommand_186 : decode cX3_readsCommand 186 = .ok (.aload_n 0, 1) := dk_42 (dk_at dksX3_readsCommand_7 6 rfl rfl)
theorem dX3_readsCommand_187 : decode cX3_readsCommand 187 = .ok (.iconst 3, 1) := dk_6 (dk_at dksX3_readsCommand_7 7 rfl rfl)
theorem dX3_readsCommand_188 : decode cX3_readsCommand 188 = .ok (.iload_n 1, 1) := dk_27 (dk_at dksX3_readsCommand_7 8 rfl rfl)
theorem dX3_readsCommand_189 : decode cX3_readsCommand 189 = .ok (.iconst 2, 1) := dk_5 (dk_at dksX3_readsCommand_7 9 rfl rfl)
theorem dX3_readsCommand_190 : decode cX3_readsCommand 190 = .ok (.iadd, 1) := dk_96 (dk_at dksX3_readsCommand_7 10 rfl rfl)
theorem dX3_readsCommand_191 : decode cX3_readsCommand 191 = .ok (.invokevirtual 281, 3) := dk_182 1 25 (dk_at dksX3_readsCommand_7 11 rfl rfl)
theorem dX3_readsCommand_194 : decode cX3_readsCommand 194 = .ok (.ifCond .eq 7, 3) := dk_153 0 7 (dk_at dksX3_readsCommand_7 14 rfl rfl)
theorem dX3_readsCommand_197 : decode cX3_readsCommand 197 = .ok (.iconst 1, 1) := dk_4 (dk_at dksX3_readsCommand_7 17 rfl rfl)
theorem dX3_readsCommand_198 : decode cX3_readsCommand 198 = .ok (.goto 4, 3) := dk_167 0 4 (dk_at dksX3_readsCommand_7 18 rfl rfl)
theorem dX3_readsCommand_201 : decode cX3_readsCommand 201 = .ok (.iconst 0, 1) := dk_3 (dk_at dksX3_readsCommand_7 21 rfl rfl)
theorem dX3_readsCommand_202 : decode cX3_readsCommand 202 = .ok (.ireturn, 1) := dk_172 (dk_at dksX3_readsCommand_7 22 rfl rfl)
theorem dX3_readsCommand_203 : decode cX3_readsCommand 203 = .ok (.iconst 1, 1) := dk_4 (dk_at dksX3_readsCommand_7 23 rfl rfl)
theorem dX3_readsCommand_204 : decode cX3_readsCommand 204 = .ok (.ireturn, 1) := dk_172 (dk_at dksX3_readsCommand_8 0 rfl rfl)
theorem dX3_readsCommand_205 : decode cX3_readsCommand 205 = .ok (.aload_n 0, 1) := dk_42 (dk_at dksX3_readsCommand_8 1 rfl rfl)
theorem dX3_readsCommand_206 : decode cX3_readsCommand 206 = .ok (.iconst 3, 1) := dk_6 (dk_at dksX3_readsCommand_8 2 rfl rfl)
theorem dX3_readsCommand_207 : decode cX3_readsCommand 207 = .ok (.iload_n 1, 1) := dk_27 (dk_at dksX3_readsCommand_8 3 rfl rfl)
theorem dX3_readsCommand_208 : decode cX3_readsCommand 208 = .ok (.iconst 1, 1) := dk_4 (dk_at dksX3_readsCommand_8 4 rfl rfl)
theorem dX3_readsCommand_209 : decode cX3_readsCommand 209 = .ok (.iadd, 1) := dk_96 (dk_at dksX3_readsCommand_8 5 rfl rfl)
theorem dX3_readsCommand_210 : decode cX3_readsCommand 210 = .ok (.invokevirtual 281, 3) := dk_182 1 25 (dk_at dksX3_readsCommand_8 6 rfl rfl)
theorem dX3_readsCommand_213 : decode cX3_readsCommand 213 = .ok (.ireturn, 1) := dk_172 (dk_at dksX3_readsCommand_8 9 rfl rfl)
abbrev cX3_isWord : ByteArray := prog_16_method_92_code
def yX3_isWord : MethodName := ⟨RX3, "isWord", "()Z"⟩
def dkwX3_isWord_3 : List UInt8 := [160, 0, 7, 4, 167, 0, 4, 3, 172, 132, 1, 1, 167, 255, 180, 3, 172]
abbrev dktX3_isWord_3 : List UInt8 := dkwX3_isWord_3 ++ []
def dkwX3_isWord_2 : List UInt8 := [182, 1, 19, 153, 0, 9, 132, 3, 1, 167, 255, 233, 42, 27, 181, 1, 22, 29, 44, 182, 1, 16]
abbrev dktX3_isWord_2 : List UInt8 := dkwX3_isWord_2 ++ dktX3_isWord_3
def dkwX3_isWord_1 : List UInt8 := [159, 0, 6, 167, 0, 50, 3, 62, 29, 44, 182, 1, 16, 162, 0, 21, 42, 44, 29, 182, 1, 10]
abbrev dktX3_isWord_1 : List UInt8 := dkwX3_isWord_1 ++ dktX3_isWord_2
def dkwX3_isWord_0 : List UInt8 := [3, 60, 27, 16, 6, 163, 0, 76, 27, 184, 1, 6, 77, 42, 182, 0, 245, 44, 3, 182, 1, 10]
abbrev dktX3_isWord_0 : List UInt8 := dkwX3_isWord_0 ++ dktX3_isWord_1
theorem dksX3_isWord_0 : cX3_isWord.data.toList.drop 0 = dktX3_isWord_0 := by decide +kernel
theorem dksX3_isWord_1 : cX3_isWord.data.toList.drop 22 = dktX3_isWord_1 := dk_seg dksX3_isWord_0 22 rfl rfl
theorem dksX3_isWord_2 : cX3_isWord.data.toList.drop 44 = dktX3_isWord_2 := dk_seg dksX3_isWord_1 22 rfl rfl
theorem dksX3_isWord_3 : cX3_isWord.data.toList.drop 66 = dktX3_isWord_3 := dk_seg dksX3_isWord_2 22 rfl rfl
theorem dX3_isWord_0 : decode cX3_isWord 0 = .ok (.iconst 0, 1) := dk_3 (dk_at dksX3_isWord_0 0 rfl rfl)
theorem dX3_isWord_1 : decode cX3_isWord 1 = .ok (.istore_n 1, 1) := dk_60 (dk_at dksX3_isWord_0 1 rfl rfl)
theorem dX3_isWord_2 : decode cX3_isWord 2 = .ok (.iload_n 1, 1) := dk_27 (dk_at dksX3_isWord_0 2 rfl rfl)
theorem dX3_isWord_3 : decode cX3_isWord 3 = .ok (.bipush 6, 2) := dk_16 6 (dk_at dksX3_isWord_0 3 rfl rfl)
theorem dX3_isWord_5 : decode cX3_isWord 5 = .ok (.if_icmp .gt 76, 3) := dk_163 0 76 (dk_at dksX3_isWord_0 5 rfl rfl)
theorem dX3_isWord_8 : decode cX3_isWord 8 = .ok (.iload_n 1, 1) := dk_27 (dk_at dksX3_isWord_0 8 rfl rfl)
theorem dX3_isWord_9 : decode cX3_isWord 9 = .ok (.invokestatic 262, 3) := dk_184 1 6 (dk_at dksX3_isWord_0 9 rfl rfl)
theorem dX3_isWord_12 : decode cX3_isWord 12 = .ok (.astore_n 2, 1) := dk_77 (dk_at dksX3_isWord_0 12 rfl rfl)
theorem dX3_isWord_13 : decode cX3_isWord 13 = .ok (.aload_n 0, 1) := dk_42 (dk_at dksX3_isWord_0 13 rfl rfl)
theorem dX3_isWord_14 : decode cX3_isWord 14 = .ok (.invokevirtual 245, 3) := dk_182 0 245 (dk_at dksX3_isWord_0 14 rfl rfl)
theorem dX3_isWord_17 : decode cX3_isWord 17 = .ok (.aload_n 2, 1) := dk_44 (dk_at dksX3_isWord_0 17 rfl rfl)
theorem dX3_isWord_18 : decode cX3_isWord 18 = .ok (.iconst 0, 1) := dk_3 (dk_at dksX3_isWord_0 18 rfl rfl)
theorem dX3_isWord_19 : decode cX3_isWord 19 = .ok (.invokevirtual 266, 3) := dk_182 1 10 (dk_at dksX3_isWord_0 19 rfl rfl)
theorem dX3_isWord_22 : decode cX3_isWord 22 = .ok (.if_icmp .eq 6, 3) := dk_159 0 6 (dk_at dksX3_isWord_1 0 rfl rfl)
theorem dX3_isWord_25 : decode cX3_isWord 25 = .ok (.goto 50, 3) := dk_167 0 50 (dk_at dksX3_isWord_1 3 rfl rfl)
theorem dX3_isWord_28 : decode cX3_isWord 28 = .ok (.iconst 0, 1) := dk_3 (dk_at dksX3_isWord_1 6 rfl rfl)
theorem dX3_isWord_29 : decode cX3_isWord 29 = .ok (.istore_n 3, 1) := dk_62 (dk_at dksX3_isWord_1 7 rfl rfl)
theorem dX3_isWord_30 : decode cX3_isWord 30 = .ok (.iload_n 3, 1) := dk_29 (dk_at dksX3_isWord_1 8 rfl rfl)
theorem dX3_isWord_31 : decode cX3_isWord 31 = .ok (.aload_n 2, 1) := dk_44 (dk_at dksX3_isWord_1 9 rfl rfl)
theorem dX3_isWord_32 : decode cX3_isWord 32 = .ok (.invokevirtual 272, 3) := dk_182 1 16 (dk_at dksX3_isWord_1 10 rfl rfl)
theorem dX3_isWord_35 : decode cX3_isWord 35 = .ok (.if_icmp .ge 21, 3) := dk_162 0 21 (dk_at dksX3_isWord_1 13 rfl rfl)
theorem dX3_isWord_38 : decode cX3_isWord 38 = .ok (.aload_n 0, 1) := dk_42 (dk_at dksX3_isWord_1 16 rfl rfl)
theorem dX3_isWord_39 : decode cX3_isWord 39 = .ok (.aload_n 2, 1) := dk_44 (dk_at dksX3_isWord_1 17 rfl rfl)
theorem dX3_isWord_40 : decode cX3_isWord 40 = .ok (.iload_n 3, 1) := dk_29 (dk_at dksX3_isWord_1 18 rfl rfl)
theorem dX3_isWord_41 : decode cX3_isWord 41 = .ok (.invokevirtual 266, 3) := dk_182 1 10 (dk_at dksX3_isWord_1 19 rfl rfl)
theorem dX3_isWord_44 : decode cX3_isWord 44 = .ok (.invokevirtual 275, 3) := dk_182 1 19 (dk_at dksX3_isWord_2 0 rfl rfl)
theorem dX3_isWord_47 : decode cX3_isWord 47 = .ok (.ifCond .eq 9, 3) := dk_153 0 9 (dk_at dksX3_isWord_2 3 rfl rfl)
theorem dX3_isWord_50 : decode cX3_isWord 50 = .ok (.iinc 3 1, 3) := dk_132 3 1 (dk_at dksX3_isWord_2 6 rfl rfl)
theorem dX3_isWord_53 : decode cX3_isWord 53 = .ok (.goto (-23), 3) := dk_167 255 233 (dk_at dksX3_isWord_2 9 rfl rfl)
theorem dX3_isWord_56 : decode cX3_isWord 56 = .ok (.aload_n 0, 1) := dk_42 (dk_at dksX3_isWord_2 12 rfl rfl)
theorem dX3_isWord_57 : decode cX3_isWord 57 = .ok (.iload_n 1, 1) := dk_27 (dk_at dksX3_isWord_2 13 rfl rfl)
theorem dX3_isWord_58 : decode cX3_isWord 58 = .ok (.putfield 278, 3) := dk_181 1 22 (dk_at dksX3_isWord_2 14 rfl rfl)
theorem dX3_isWord_61 : decode cX3_isWord 61 = .ok (.iload_n 3, 1) := dk_29 (dk_at dksX3_isWord_2 17 rfl rfl)
theorem dX3_isWord_62 : decode cX3_isWord 62 = .ok (.aload_n 2, 1) := dk_44 (dk_at dksX3_isWord_2 18 rfl rfl)
theorem dX3_isWord_63 : decode cX3_isWord 63 = .ok (.invokevirtual 272, 3) := dk_182 1 16 (dk_at dksX3_isWord_2 19 rfl rfl)
theorem dX3_isWord_66 : decode cX3_isWord 66 = .ok (.if_icmp .ne 7, 3) := dk_160 0 7 (dk_at dksX3_isWord_3 0 rfl rfl)
theorem dX3_isWord_69 : decode cX3_isWord 69 = .ok (.iconst 1, 1) := dk_4 (dk_at dksX3_isWord_3 3 rfl rfl)
theorem dX3_isWord_70 : decode cX3_isWord 70 = .ok (.goto 4, 3) := dk_167 0 4 (dk_at dksX3_isWord_3 4 rfl rfl)
theorem dX3_isWord_73 : decode cX3_isWord 73 = .ok (.iconst 0, 1) := dk_3 (dk_at dksX3_isWord_3 7 rfl rfl)
theorem dX3_isWord_74 : decode cX3_isWord 74 = .ok (.ireturn, 1) := dk_172 (dk_at dksX3_isWord_3 8 rfl rfl)
theorem dX3_isWord_75 : decode cX3_isWord 75 = .ok (.iinc 1 1, 3) := dk_132 1 1 (dk_at dksX3_isWord_3 9 rfl rfl)
theorem dX3_isWord_78 : decode cX3_isWord 78 = .ok (.goto (-76), 3) := dk_167 255 180 (dk_at dksX3_isWord_3 12 rfl rfl)
theorem dX3_isWord_81 : decode cX3_isWord 81 = .ok (.iconst 0, 1) := dk_3 (dk_at dksX3_isWord_3 15 rfl rfl)
theorem dX3_isWord_82 : decode cX3_isWord 82 = .ok (.ireturn, 1) := dk_172 (dk_at dksX3_isWord_3 16 rfl rfl)
abbrev cX3_wordOf : ByteArray := prog_16_method_91_code
def yX3_wordOf : MethodName := ⟨RX3, "wordOf", "(I)Ljava/lang/String;"⟩
def dkwX3_wordOf_2 : List UInt8 := [18, 248, 176, 18, 250, 176, 18, 252, 176, 18, 254, 176, 19, 1, 0, 176, 19, 1, 2, 176, 19, 1, 4, 176]
abbrev dktX3_wordOf_2 : List UInt8 := dkwX3_wordOf_2 ++ []
def dkwX3_wordOf_1 : List UInt8 := [170, 0, 0, 0, 0, 0, 59, 0, 0, 0, 0, 0, 0, 0, 5, 0, 0, 0, 39, 0, 0, 0, 42, 0, 0, 0, 45, 0, 0, 0, 48, 0, 0, 0, 51, 0, 0, 0, 55]
abbrev dktX3_wordOf_1 : List UInt8 := dkwX3_wordOf_1 ++ dktX3_wordOf_2
def dkwX3_wordOf_0 : List UInt8 := [26]
abbrev dktX3_wordOf_0 : List UInt8 := dkwX3_wordOf_0 ++ dktX3_wordOf_1
theorem dksX3_wordOf_0 : cX3_wordOf.data.toList.drop 0 = dktX3_wordOf_0 := by decide +kernel
theorem dksX3_wordOf_1 : cX3_wordOf.data.toList.drop 1 = dktX3_wordOf_1 := dk_seg dksX3_wordOf_0 1 rfl rfl
theorem dksX3_wordOf_2 : cX3_wordOf.data.toList.drop 40 = dktX3_wordOf_2 := dk_seg dksX3_wordOf_1 39 rfl rfl
theorem dX3_wordOf_0 : decode cX3_wordOf 0 = .ok (.iload_n 0, 1) := dk_26 (dk_at dksX3_wordOf_0 0 rfl rfl)
theorem dX3_wordOf_1 : decode cX3_wordOf 1 = .ok (.tableswitch 59 0 5 #[39, 42, 45, 48, 51, 55], 39) := by decide +kernel
theorem dX3_wordOf_40 : decode cX3_wordOf 40 = .ok (.ldc 248, 2) := dk_18 248 (dk_at dksX3_wordOf_2 0 rfl rfl)
theorem dX3_wordOf_42 : decode cX3_wordOf 42 = .ok (.areturn, 1) := dk_176 (dk_at dksX3_wordOf_2 2 rfl rfl)
theorem dX3_wordOf_43 : decode cX3_wordOf 43 = .ok (.ldc 250, 2) := dk_18 250 (dk_at dksX3_wordOf_2 3 rfl rfl)
theorem dX3_wordOf_45 : decode cX3_wordOf 45 = .ok (.areturn, 1) := dk_176 (dk_at dksX3_wordOf_2 5 rfl rfl)
theorem dX3_wordOf_46 : decode cX3_wordOf 46 = .ok (.ldc 252, 2) := dk_18 252 (dk_at dksX3_wordOf_2 6 rfl rfl)
theorem dX3_wordOf_48 : decode cX3_wordOf 48 = .ok (.areturn, 1) := dk_176 (dk_at dksX3_wordOf_2 8 rfl rfl)
theorem dX3_wordOf_49 : decode cX3_wordOf 49 = .ok (.ldc 254, 2) := dk_18 254 (dk_at dksX3_wordOf_2 9 rfl rfl)
theorem dX3_wordOf_51 : decode cX3_wordOf 51 = .ok (.areturn, 1) := dk_176 (dk_at dksX3_wordOf_2 11 rfl rfl)
theorem dX3_wordOf_52 : decode cX3_wordOf 52 = .ok (.ldc_w 256, 3) := dk_19 1 0 (dk_at dksX3_wordOf_2 12 rfl rfl)
theorem dX3_wordOf_55 : decode cX3_wordOf 55 = .ok (.areturn, 1) := dk_176 (dk_at dksX3_wordOf_2 15 rfl rfl)
theorem dX3_wordOf_56 : decode cX3_wordOf 56 = .ok (.ldc_w 258, 3) := dk_19 1 2 (dk_at dksX3_wordOf_2 16 rfl rfl)
theorem dX3_wordOf_59 : decode cX3_wordOf 59 = .ok (.areturn, 1) := dk_176 (dk_at dksX3_wordOf_2 19 rfl rfl)
theorem dX3_wordOf_60 : decode cX3_wordOf 60 = .ok (.ldc_w 260, 3) := dk_19 1 4 (dk_at dksX3_wordOf_2 20 rfl rfl)
theorem dX3_wordOf_63 : decode cX3_wordOf 63 = .ok (.areturn, 1) := dk_176 (dk_at dksX3_wordOf_2 23 rfl rfl)
abbrev cX3_sign : ByteArray := prog_16_method_89_code
def yX3_sign : MethodName := ⟨RX3, "sign", "()I"⟩
def dkwX3_sign_1 : List UInt8 := [172]
abbrev dktX3_sign_1 : List UInt8 := dkwX3_sign_1 ++ []
def dkwX3_sign_0 : List UInt8 := [42, 180, 0, 242, 42, 180, 0, 238, 162, 0, 15, 42, 180, 0, 35, 42, 180, 0, 242, 46, 167, 0, 4, 2]
abbrev dktX3_sign_0 : List UInt8 := dkwX3_sign_0 ++ dktX3_sign_1
theorem dksX3_sign_0 : cX3_sign.data.toList.drop 0 = dktX3_sign_0 := by decide +kernel
theorem dksX3_sign_1 : cX3_sign.data.toList.drop 24 = dktX3_sign_1 := dk_seg dksX3_sign_0 24 rfl rfl
theorem dX3_sign_0 : decode cX3_sign 0 = .ok (.aload_n 0, 1) := dk_42 (dk_at dksX3_sign_0 0 rfl rfl)
theorem dX3_sign_1 : decode cX3_sign 1 = .ok (.getfield 242, 3) := dk_180 0 242 (dk_at dksX3_sign_0 1 rfl rfl)
theorem dX3_sign_4 : decode cX3_sign 4 = .ok (.aload_n 0, 1) := dk_42 (dk_at dksX3_sign_0 4 rfl rfl)
theorem dX3_sign_5 : decode cX3_sign 5 = .ok (.getfield 238, 3) := dk_180 0 238 (dk_at dksX3_sign_0 5 rfl rfl)
theorem dX3_sign_8 : decode cX3_sign 8 = .ok (.if_icmp .ge 15, 3) := dk_162 0 15 (dk_at dksX3_sign_0 8 rfl rfl)
theorem dX3_sign_11 : decode cX3_sign 11 = .ok (.aload_n 0, 1) := dk_42 (dk_at dksX3_sign_0 11 rfl rfl)
theorem dX3_sign_12 : decode cX3_sign 12 = .ok (.getfield 35, 3) := dk_180 0 35 (dk_at dksX3_sign_0 12 rfl rfl)
theorem dX3_sign_15 : decode cX3_sign 15 = .ok (.aload_n 0, 1) := dk_42 (dk_at dksX3_sign_0 15 rfl rfl)
theorem dX3_sign_16 : decode cX3_sign 16 = .ok (.getfield 242, 3) := dk_180 0 242 (dk_at dksX3_sign_0 16 rfl rfl)
theorem dX3_sign_19 : decode cX3_sign 19 = .ok (.iaload, 1) := dk_46 (dk_at dksX3_sign_0 19 rfl rfl)
theorem dX3_sign_20 : decode cX3_sign 20 = .ok (.goto 4, 3) := dk_167 0 4 (dk_at dksX3_sign_0 20 rfl rfl)
theorem dX3_sign_23 : decode cX3_sign 23 = .ok (.iconst (-1), 1) := dk_2 (dk_at dksX3_sign_0 23 rfl rfl)
theorem dX3_sign_24 : decode cX3_sign 24 = .ok (.ireturn, 1) := dk_172 (dk_at dksX3_sign_1 0 rfl rfl)
abbrev cX3_isSign : ByteArray := prog_16_method_90_code
def yX3_isSign : MethodName := ⟨RX3, "isSign", "(I)Z"⟩
def dkwX3_isSign_1 : List UInt8 := [167, 0, 4, 3, 96, 181, 0, 242, 28, 172]
abbrev dktX3_isSign_1 : List UInt8 := dkwX3_isSign_1 ++ []
def dkwX3_isSign_0 : List UInt8 := [42, 182, 0, 245, 27, 160, 0, 7, 4, 167, 0, 4, 3, 61, 42, 89, 180, 0, 242, 28, 153, 0, 7, 4]
abbrev dktX3_isSign_0 : List UInt8 := dkwX3_isSign_0 ++ dktX3_isSign_1
theorem dksX3_isSign_0 : cX3_isSign.data.toList.drop 0 = dktX3_isSign_0 := by decide +kernel
theorem dksX3_isSign_1 : cX3_isSign.data.toList.drop 24 = dktX3_isSign_1 := dk_seg dksX3_isSign_0 24 rfl rfl
theorem dX3_isSign_0 : decode cX3_isSign 0 = .ok (.aload_n 0, 1) := dk_42 (dk_at dksX3_isSign_0 0 rfl rfl)
theorem dX3_isSign_1 : decode cX3_isSign 1 = .ok (.invokevirtual 245, 3) := dk_182 0 245 (dk_at dksX3_isSign_0 1 rfl rfl)
theorem dX3_isSign_4 : decode cX3_isSign 4 = .ok (.iload_n 1, 1) := dk_27 (dk_at dksX3_isSign_0 4 rfl rfl)
theorem dX3_isSign_5 : decode cX3_isSign 5 = .ok (.if_icmp .ne 7, 3) := dk_160 0 7 (dk_at dksX3_isSign_0 5 rfl rfl)
theorem dX3_isSign_8 : decode cX3_isSign 8 = .ok (.iconst 1, 1) := dk_4 (dk_at dksX3_isSign_0 8 rfl rfl)
theorem dX3_isSign_9 : decode cX3_isSign 9 = .ok (.goto 4, 3) := dk_167 0 4 (dk_at dksX3_isSign_0 9 rfl rfl)
theorem dX3_isSign_12 : decode cX3_isSign 12 = .ok (.iconst 0, 1) := dk_3 (dk_at dksX3_isSign_0 12 rfl rfl)
theorem dX3_isSign_13 : decode cX3_isSign 13 = .ok (.istore_n 2, 1) := dk_61 (dk_at dksX3_isSign_0 13 rfl rfl)
theorem dX3_isSign_14 : decode cX3_isSign 14 = .ok (.aload_n 0, 1) := dk_42 (dk_at dksX3_isSign_0 14 rfl rfl)
theorem dX3_isSign_15 : decode cX3_isSign 15 = .ok (.dup, 1) := dk_89 (dk_at dksX3_isSign_0 15 rfl rfl)
theorem dX3_isSign_16 : decode cX3_isSign 16 = .ok (.getfield 242, 3) := dk_180 0 242 (dk_at dksX3_isSign_0 16 rfl rfl)
theorem dX3_isSign_19 : decode cX3_isSign 19 = .ok (.iload_n 2, 1) := dk_28 (dk_at dksX3_isSign_0 19 rfl rfl)
theorem dX3_isSign_20 : decode cX3_isSign 20 = .ok (.ifCond .eq 7, 3) := dk_153 0 7 (dk_at dksX3_isSign_0 20 rfl rfl)
theorem dX3_isSign_23 : decode cX3_isSign 23 = .ok (.iconst 1, 1) := dk_4 (dk_at dksX3_isSign_0 23 rfl rfl)
theorem dX3_isSign_24 : decode cX3_isSign 24 = .ok (.goto 4, 3) := dk_167 0 4 (dk_at dksX3_isSign_1 0 rfl rfl)
theorem dX3_isSign_27 : decode cX3_isSign 27 = .ok (.iconst 0, 1) := dk_3 (dk_at dksX3_isSign_1 3 rfl rfl)
theorem dX3_isSign_28 : decode cX3_isSign 28 = .ok (.iadd, 1) := dk_96 (dk_at dksX3_isSign_1 4 rfl rfl)
theorem dX3_isSign_29 : decode cX3_isSign 29 = .ok (.putfield 242, 3) := dk_181 0 242 (dk_at dksX3_isSign_1 5 rfl rfl)
theorem dX3_isSign_32 : decode cX3_isSign 32 = .ok (.iload_n 2, 1) := dk_28 (dk_at dksX3_isSign_1 8 rfl rfl)
theorem dX3_isSign_33 : decode cX3_isSign 33 = .ok (.ireturn, 1) := dk_172 (dk_at dksX3_isSign_1 9 rfl rfl)
abbrev cX3_isNumber : ByteArray := prog_16_method_93_code
def yX3_isNumber : MethodName := ⟨RX3, "isNumber", "(II)Z"⟩
def dkwX3_isNumber_3 : List UInt8 := [167, 0, 4, 3, 172]
abbrev dktX3_isNumber_3 : List UInt8 := dkwX3_isNumber_3 ++ []
def dkwX3_isNumber_2 : List UInt8 := [181, 0, 242, 132, 4, 1, 167, 255, 210, 42, 180, 0, 38, 28, 29, 79, 21, 4, 158, 0, 7, 4]
abbrev dktX3_isNumber_2 : List UInt8 := dkwX3_isNumber_2 ++ dktX3_isNumber_3
def dkwX3_isNumber_1 : List UInt8 := [153, 0, 32, 16, 10, 29, 104, 42, 182, 0, 245, 96, 16, 48, 100, 62, 42, 89, 180, 0, 242, 4, 96]
abbrev dktX3_isNumber_1 : List UInt8 := dkwX3_isNumber_1 ++ dktX3_isNumber_2
def dkwX3_isNumber_0 : List UInt8 := [3, 62, 3, 54, 4, 21, 4, 27, 162, 0, 46, 42, 182, 0, 245, 16, 48, 16, 57, 184, 0, 70]
abbrev dktX3_isNumber_0 : List UInt8 := dkwX3_isNumber_0 ++ dktX3_isNumber_1
theorem dksX3_isNumber_0 : cX3_isNumber.data.toList.drop 0 = dktX3_isNumber_0 := by decide +kernel
theorem dksX3_isNumber_1 : cX3_isNumber.data.toList.drop 22 = dktX3_isNumber_1 := dk_seg dksX3_isNumber_0 22 rfl rfl
theorem dksX3_isNumber_2 : cX3_isNumber.data.toList.drop 45 = dktX3_isNumber_2 := dk_seg dksX3_isNumber_1 23 rfl rfl
theorem dksX3_isNumber_3 : cX3_isNumber.data.toList.drop 67 = dktX3_isNumber_3 := dk_seg dksX3_isNumber_2 22 rfl rfl
theorem dX3_isNumber_0 : decode cX3_isNumber 0 = .ok (.iconst 0, 1) := dk_3 (dk_at dksX3_isNumber_0 0 rfl rfl)
theorem dX3_isNumber_1 : decode cX3_isNumber 1 = .ok (.istore_n 3, 1) := dk_62 (dk_at dksX3_isNumber_0 1 rfl rfl)
theorem dX3_isNumber_2 : decode cX3_isNumber 2 = .ok (.iconst 0, 1) := dk_3 (dk_at dksX3_isNumber_0 2 rfl rfl)
theorem dX3_isNumber_3 : decode cX3_isNumber 3 = .ok (.istore 4, 2) := dk_54 4 (dk_at dksX3_isNumber_0 3 rfl rfl)
theorem dX3_isNumber_5 : decode cX3_isNumber 5 = .ok (.iload 4, 2) := dk_21 4 (dk_at dksX3_isNumber_0 5 rfl rfl)
theorem dX3_isNumber_7 : decode cX3_isNumber 7 = .ok (.iload_n 1, 1) := dk_27 (dk_at dksX3_isNumber_0 7 rfl rfl)
theorem dX3_isNumber_8 : decode cX3_isNumber 8 = .ok (.if_icmp .ge 46, 3) := dk_162 0 46 (dk_at dksX3_isNumber_0 8 rfl rfl)
theorem dX3_isNumber_11 : decode cX3_isNumber 11 = .ok (.aload_n 0, 1) := dk_42 (dk_at dksX3_isNumber_0 11 rfl rfl)
theorem dX3_isNumber_12 : decode cX3_isNumber 12 = .ok (.invokevirtual 245, 3) := dk_182 0 245 (dk_at dksX3_isNumber_0 12 rfl rfl)
theorem dX3_isNumber_15 : decode cX3_isNumber 15 = .ok (.bipush 48, 2) := dk_16 48 (dk_at dksX3_isNumber_0 15 rfl rfl)
theorem dX3_isNumber_17 : decode cX3_isNumber 17 = .ok (.bipush 57, 2) := dk_16 57 (dk_at dksX3_isNumber_0 17 rfl rfl)
theorem dX3_isNumber_19 : decode cX3_isNumber 19 = .ok (.invokestatic 70, 3) := dk_184 0 70 (dk_at dksX3_isNumber_0 19 rfl rfl)
theorem dX3_isNumber_22 : decode cX3_isNumber 22 = .ok (.ifCond .eq 32, 3) := dk_153 0 32 (dk_at dksX3_isNumber_1 0 rfl rfl)
theorem dX3_isNumber_25 : decode cX3_isNumber 25 = .ok (.bipush 10, 2) := dk_16 10 (dk_at dksX3_isNumber_1 3 rfl rfl)
theorem dX3_isNumber_27 : decode cX3_isNumber 27 = .ok (.iload_n 3, 1) := dk_29 (dk_at dksX3_isNumber_1 5 rfl rfl)
theorem dX3_isNumber_28 : decode cX3_isNumber 28 = .ok (.imul, 1) := dk_104 (dk_at dksX3_isNumber_1 6 rfl rfl)
theorem dX3_isNumber_29 : decode cX3_isNumber 29 = .ok (.aload_n 0, 1) := dk_42 (dk_at dksX3_isNumber_1 7 rfl rfl)
theorem dX3_isNumber_30 : decode cX3_isNumber 30 = .ok (.invokevirtual 245, 3) := dk_182 0 245 (dk_at dksX3_isNumber_1 8 rfl rfl)
theorem dX3_isNumber_33 : decode cX3_isNumber 33 = .ok (.iadd, 1) := dk_96 (dk_at dksX3_isNumber_1 11 rfl rfl)
theorem dX3_isNumber_34 : decode cX3_isNumber 34 = .ok (.bipush 48, 2) := dk_16 48 (dk_at dksX3_isNumber_1 12 rfl rfl)
theorem dX3_isNumber_36 : decode cX3_isNumber 36 = .ok (.isub, 1) := dk_100 (dk_at dksX3_isNumber_1 14 rfl rfl)
theorem dX3_isNumber_37 : decode cX3_isNumber 37 = .ok (.istore_n 3, 1) := dk_62 (dk_at dksX3_isNumber_1 15 rfl rfl)
theorem dX3_isNumber_38 : decode cX3_isNumber 38 = .ok (.aload_n 0, 1) := dk_42 (dk_at dksX3_isNumber_1 16 rfl rfl)
theorem dX3_isNumber_39 : decode cX3_isNumber 39 = .ok (.dup, 1) := dk_89 (dk_at dksX3_isNumber_1 17 rfl rfl)
theorem dX3_isNumber_40 : decode cX3_isNumber 40 = .ok (.getfield 242, 3) := dk_180 0 242 (dk_at dksX3_isNumber_1 18 rfl rfl)
theorem dX3_isNumber_43 : decode cX3_isNumber 43 = .ok (.iconst 1, 1) := dk_4 (dk_at dksX3_isNumber_1 21 rfl rfl)
theorem dX3_isNumber_44 : decode cX3_isNumber 44 = .ok (.iadd, 1) := dk_96 (dk_at dksX3_isNumber_1 22 rfl rfl)
theorem dX3_isNumber_45 : decode cX3_isNumber 45 = .ok (.putfield 242, 3) := dk_181 0 242 (dk_at dksX3_isNumber_2 0 rfl rfl)
theorem dX3_isNumber_48 : decode cX3_isNumber 48 = .ok (.iinc 4 1, 3) := dk_132 4 1 (dk_at dksX3_isNumber_2 3 rfl rfl)
theorem dX3_isNumber_51 : decode cX3_isNumber 51 = .ok (.goto (-46), 3) := dk_167 255 210 (dk_at dksX3_isNumber_2 6 rfl rfl)
theorem dX3_isNumber_54 : decode cX3_isNumber 54 = .ok (.aload_n 0, 1) := dk_42 (dk_at dksX3_isNumber_2 9 rfl rfl)
theorem dX3_isNumber_55 : decode cX3_isNumber 55 = .ok (.getfield 38, 3) := dk_180 0 38 (dk_at dksX3_isNumber_2 10 rfl rfl)
theorem dX3_isNumber_58 : decode cX3_isNumber 58 = .ok (.iload_n 2, 1) := dk_28 (dk_at dksX3_isNumber_2 13 rfl rfl)
theorem dX3_isNumber_59 : decode cX3_isNumber 59 = .ok (.iload_n 3, 1) := dk_29 (dk_at dksX3_isNumber_2 14 rfl rfl)
theorem dX3_isNumber_60 : decode cX3_isNumber 60 = .ok (.iastore, 1) := dk_79 (dk_at dksX3_isNumber_2 15 rfl rfl)
theorem dX3_isNumber_61 : decode cX3_isNumber 61 = .ok (.iload 4, 2) := dk_21 4 (dk_at dksX3_isNumber_2 16 rfl rfl)
theorem dX3_isNumber_63 : decode cX3_isNumber 63 = .ok (.ifCond .le 7, 3) := dk_158 0 7 (dk_at dksX3_isNumber_2 18 rfl rfl)
theorem dX3_isNumber_66 : decode cX3_isNumber 66 = .ok (.iconst 1, 1) := dk_4 (dk_at dksX3_isNumber_2 21 rfl rfl)
theorem dX3_isNumber_67 : decode cX3_isNumber 67 = .ok (.goto 4, 3) := dk_167 0 4 (dk_at dksX3_isNumber_3 0 rfl rfl)
theorem dX3_isNumber_70 : decode cX3_isNumber 70 = .ok (.iconst 0, 1) := dk_3 (dk_at dksX3_isNumber_3 3 rfl rfl)
theorem dX3_isNumber_71 : decode cX3_isNumber 71 = .ok (.ireturn, 1) := dk_172 (dk_at dksX3_isNumber_3 4 rfl rfl)
abbrev cX3_isSpan : ByteArray := prog_16_method_94_code
def yX3_isSpan : MethodName := ⟨RX3, "isSpan", "(I)Z"⟩
def dkwX3_isSpan_1 : List UInt8 := [153, 0, 18, 42, 6, 27, 4, 96, 182, 1, 25, 153, 0, 7, 4, 167, 0, 4, 3, 172]
abbrev dktX3_isSpan_1 : List UInt8 := dkwX3_isSpan_1 ++ []
def dkwX3_isSpan_0 : List UInt8 := [42, 16, 32, 182, 1, 19, 153, 0, 36, 42, 6, 27, 182, 1, 25, 153, 0, 27, 42, 16, 45, 182, 1, 19]
abbrev dktX3_isSpan_0 : List UInt8 := dkwX3_isSpan_0 ++ dktX3_isSpan_1
theorem dksX3_isSpan_0 : cX3_isSpan.data.toList.drop 0 = dktX3_isSpan_0 := by decide +kernel
theorem dksX3_isSpan_1 : cX3_isSpan.data.toList.drop 24 = dktX3_isSpan_1 := dk_seg dksX3_isSpan_0 24 rfl rfl
theorem dX3_isSpan_0 : decode cX3_isSpan 0 = .ok (.aload_n 0, 1) := dk_42 (dk_at dksX3_isSpan_0 0 rfl rfl)
theorem dX3_isSpan_1 : decode cX3_isSpan 1 = .ok (.bipush 32, 2) := dk_16 32 (dk_at dksX3_isSpan_0 1 rfl rfl)
theorem dX3_isSpan_3 : decode cX3_isSpan 3 = .ok (.invokevirtual 275, 3) := dk_182 1 19 (dk_at dksX3_isSpan_0 3 rfl rfl)
theorem dX3_isSpan_6 : decode cX3_isSpan 6 = .ok (.ifCond .eq 36, 3) := dk_153 0 36 (dk_at dksX3_isSpan_0 6 rfl rfl)
theorem dX3_isSpan_9 : decode cX3_isSpan 9 = .ok (.aload_n 0, 1) := dk_42 (dk_at dksX3_isSpan_0 9 rfl rfl)
theorem dX3_isSpan_10 : decode cX3_isSpan 10 = .ok (.iconst 3, 1) := dk_6 (dk_at dksX3_isSpan_0 10 rfl rfl)
theorem dX3_isSpan_11 : decode cX3_isSpan 11 = .ok (.iload_n 1, 1) := dk_27 (dk_at dksX3_isSpan_0 11 rfl rfl)
theorem dX3_isSpan_12 : decode cX3_isSpan 12 = .ok (.invokevirtual 281, 3) := dk_182 1 25 (dk_at dksX3_isSpan_0 12 rfl rfl)
theorem dX3_isSpan_15 : decode cX3_isSpan 15 = .ok (.ifCond .eq 27, 3) := dk_153 0 27 (dk_at dksX3_isSpan_0 15 rfl rfl)
theorem dX3_isSpan_18 : decode cX3_isSpan 18 = .ok (.aload_n 0, 1) := dk_42 (dk_at dksX3_isSpan_0 18 rfl rfl)
theorem dX3_isSpan_19 : decode cX3_isSpan 19 = .ok (.bipush 45, 2) := dk_16 45 (dk_at dksX3_isSpan_0 19 rfl rfl)
theorem dX3_isSpan_21 : decode cX3_isSpan 21 = .ok (.invokevirtual 275, 3) := dk_182 1 19 (dk_at dksX3_isSpan_0 21 rfl rfl)
theorem dX3_isSpan_24 : decode cX3_isSpan 24 = .ok (.ifCond .eq 18, 3) := dk_153 0 18 (dk_at dksX3_isSpan_1 0 rfl rfl)
theorem dX3_isSpan_27 : decode cX3_isSpan 27 = .ok (.aload_n 0, 1) := dk_42 (dk_at dksX3_isSpan_1 3 rfl rfl)
theorem dX3_isSpan_28 : decode cX3_isSpan 28 = .ok (.iconst 3, 1) := dk_6 (dk_at dksX3_isSpan_1 4 rfl rfl)
theorem dX3_isSpan_29 : decode cX3_isSpan 29 = .ok (.iload_n 1, 1) := dk_27 (dk_at dksX3_isSpan_1 5 rfl rfl)
theorem dX3_isSpan_30 : decode cX3_isSpan 30 = .ok (.iconst 1, 1) := dk_4 (dk_at dksX3_isSpan_1 6 rfl rfl)
theorem dX3_isSpan_31 : decode cX3_isSpan 31 = .ok (.iadd, 1) := dk_96 (dk_at dksX3_isSpan_1 7 rfl rfl)
theorem dX3_isSpan_32 : decode cX3_isSpan 32 = .ok (.invokevirtual 281, 3) := dk_182 1 25 (dk_at dksX3_isSpan_1 8 rfl rfl)
theorem dX3_isSpan_35 : decode cX3_isSpan 35 = .ok (.ifCond .eq 7, 3) := dk_153 0 7 (dk_at dksX3_isSpan_1 11 rfl rfl)
theorem dX3_isSpan_38 : decode cX3_isSpan 38 = .ok (.iconst 1, 1) := dk_4 (dk_at dksX3_isSpan_1 14 rfl rfl)
theorem dX3_isSpan_39 : decode cX3_isSpan 39 = .ok (.goto 4, 3) := dk_167 0 4 (dk_at dksX3_isSpan_1 15 rfl rfl)
theorem dX3_isSpan_42 : decode cX3_isSpan 42 = .ok (.iconst 0, 1) := dk_3 (dk_at dksX3_isSpan_1 18 rfl rfl)
theorem dX3_isSpan_43 : decode cX3_isSpan 43 = .ok (.ireturn, 1) := dk_172 (dk_at dksX3_isSpan_1 19 rfl rfl)
abbrev cX3_isMoved : ByteArray := prog_16_method_95_code
def yX3_isMoved : MethodName := ⟨RX3, "isMoved", "(I)Z"⟩
def dkwX3_isMoved_3 : List UInt8 := [4, 96, 46, 167, 0, 12, 42, 180, 0, 38, 27, 4, 96, 46, 116, 79, 4, 172]
abbrev dktX3_isMoved_3 : List UInt8 := dkwX3_isMoved_3 ++ []
def dkwX3_isMoved_2 : List UInt8 := [182, 1, 25, 154, 0, 5, 3, 172, 42, 180, 0, 38, 27, 4, 96, 28, 153, 0, 14, 42, 180, 0, 38, 27]
abbrev dktX3_isMoved_2 : List UInt8 := dkwX3_isMoved_2 ++ dktX3_isMoved_3
def dkwX3_isMoved_1 : List UInt8 := [182, 1, 19, 61, 28, 154, 0, 12, 42, 16, 45, 182, 1, 19, 153, 0, 14, 42, 6, 27, 4, 96]
abbrev dktX3_isMoved_1 : List UInt8 := dkwX3_isMoved_1 ++ dktX3_isMoved_2
def dkwX3_isMoved_0 : List UInt8 := [42, 6, 27, 182, 1, 25, 153, 0, 12, 42, 16, 32, 182, 1, 19, 154, 0, 5, 3, 172, 42, 16, 43]
abbrev dktX3_isMoved_0 : List UInt8 := dkwX3_isMoved_0 ++ dktX3_isMoved_1
theorem dksX3_isMoved_0 : cX3_isMoved.data.toList.drop 0 = dktX3_isMoved_0 := by decide +kernel
theorem dksX3_isMoved_1 : cX3_isMoved.data.toList.drop 23 = dktX3_isMoved_1 := dk_seg dksX3_isMoved_0 23 rfl rfl
theorem dksX3_isMoved_2 : cX3_isMoved.data.toList.drop 45 = dktX3_isMoved_2 := dk_seg dksX3_isMoved_1 22 rfl rfl
theorem dksX3_isMoved_3 : cX3_isMoved.data.toList.drop 69 = dktX3_isMoved_3 := dk_seg dksX3_isMoved_2 24 rfl rfl
theorem dX3_isMoved_0 : decode cX3_isMoved 0 = .ok (.aload_n 0, 1) := dk_42 (dk_at dksX3_isMoved_0 0 rfl rfl)
theorem dX3_isMoved_1 : decode cX3_isMoved 1 = .ok (.iconst 3, 1) := dk_6 (dk_at dksX3_isMoved_0 1 rfl rfl)
theorem dX3_isMoved_2 : decode cX3_isMoved 2 = .ok (.iload_n 1, 1) := dk_27 (dk_at dksX3_isMoved_0 2 rfl rfl)
theorem dX3_isMoved_3 : decode cX3_isMoved 3 = .ok (.invokevirtual 281, 3) := dk_182 1 25 (dk_at dksX3_isMoved_0 3 rfl rfl)
theorem dX3_isMoved_6 : decode cX3_isMoved 6 = .ok (.ifCond .eq 12, 3) := dk_153 0 12 (dk_at dksX3_isMoved_0 6 rfl rfl)
theorem dX3_isMoved_9 : decode cX3_isMoved 9 = .ok (.aload_n 0, 1) := dk_42 (dk_at dksX3_isMoved_0 9 rfl rfl)
theorem dX3_isMoved_10 : decode cX3_isMoved 10 = .ok (.bipush 32, 2) := dk_16 32 (dk_at dksX3_isMoved_0 10 rfl rfl)
theorem dX3_isMoved_12 : decode cX3_isMoved 12 = .ok (.invokevirtual 275, 3) := dk_182 1 19 (dk_at dksX3_isMoved_0 12 rfl rfl)
theorem dX3_isMoved_15 : decode cX3_isMoved 15 = .ok (.ifCond .ne 5, 3) := dk_154 0 5 (dk_at dksX3_isMoved_0 15 rfl rfl)
theorem dX3_isMoved_18 : decode cX3_isMoved 18 = .ok (.iconst 0, 1) := dk_3 (dk_at dksX3_isMoved_0 18 rfl rfl)
theorem dX3_isMoved_19 : decode cX3_isMoved 19 = .ok (.ireturn, 1) := dk_172 (dk_at dksX3_isMoved_0 19 rfl rfl)
theorem dX3_isMoved_20 : decode cX3_isMoved 20 = .ok (.aload_n 0, 1) := dk_42 (dk_at dksX3_isMoved_0 20 rfl rfl)
theorem dX3_isMoved_21 : decode cX3_isMoved 21 = .ok (.bipush 43, 2) := dk_16 43 (dk_at dksX3_isMoved_0 21 rfl rfl)
theorem dX3_isMoved_23 : decode cX3_isMoved 23 = .ok (.invokevirtual 275, 3) := dk_182 1 19 (dk_at dksX3_isMoved_1 0 rfl rfl)
theorem dX3_isMoved_26 : decode cX3_isMoved 26 = .ok (.istore_n 2, 1) := dk_61 (dk_at dksX3_isMoved_1 3 rfl rfl)
theorem dX3_isMoved_27 : decode cX3_isMoved 27 = .ok (.iload_n 2, 1) := dk_28 (dk_at dksX3_isMoved_1 4 rfl rfl)
theorem dX3_isMoved_28 : decode cX3_isMoved 28 = .ok (.ifCond .ne 12, 3) := dk_154 0 12 (dk_at dksX3_isMoved_1 5 rfl rfl)
theorem dX3_isMoved_31 : decode cX3_isMoved 31 = .ok (.aload_n 0, 1) := dk_42 (dk_at dksX3_isMoved_1 8 rfl rfl)
theorem dX3_isMoved_32 : decode cX3_isMoved 32 = .ok (.bipush 45, 2) := dk_16 45 (dk_at dksX3_isMoved_1 9 rfl rfl)
theorem dX3_isMoved_34 : decode cX3_isMoved 34 = .ok (.invokevirtual 275, 3) := dk_182 1 19 (dk_at dksX3_isMoved_1 11 rfl rfl)
theorem dX3_isMoved_37 : decode cX3_isMoved 37 = .ok (.ifCond .eq 14, 3) := dk_153 0 14 (dk_at dksX3_isMoved_1 14 rfl rfl)
theorem dX3_isMoved_40 : decode cX3_isMoved 40 = .ok (.aload_n 0, 1) := dk_42 (dk_at dksX3_isMoved_1 17 rfl rfl)
theorem dX3_isMoved_41 : decode cX3_isMoved 41 = .ok (.iconst 3, 1) := dk_6 (dk_at dksX3_isMoved_1 18 rfl rfl)
theorem dX3_isMoved_42 : decode cX3_isMoved 42 = .ok (.iload_n 1, 1) := dk_27 (dk_at dksX3_isMoved_1 19 rfl rfl)
theorem dX3_isMoved_43 : decode cX3_isMoved 43 = .ok (.iconst 1, 1) := dk_4 (dk_at dksX3_isMoved_1 20 rfl rfl)
theorem dX3_isMoved_44 : decode cX3_isMoved 44 = .ok (.iadd, 1) := dk_96 (dk_at dksX3_isMoved_1 21 rfl rfl)
theorem dX3_isMoved_45 : decode cX3_isMoved 45 = .ok (.invokevirtual 281, 3) := dk_182 1 25 (dk_at dksX3_isMoved_2 0 rfl rfl)
theorem dX3_isMoved_48 : decode cX3_isMoved 48 = .ok (.ifCond .ne 5, 3) := dk_154 0 5 (dk_at dksX3_isMoved_2 3 rfl rfl)
theorem dX3_isMoved_51 : decode cX3_isMoved 51 = .ok (.iconst 0, 1) := dk_3 (dk_at dksX3_isMoved_2 6 rfl rfl)
theorem dX3_isMoved_52 : decode cX3_isMoved 52 = .ok (.ireturn, 1) := dk_172 (dk_at dksX3_isMoved_2 7 rfl rfl)
theorem dX3_isMoved_53 : decode cX3_isMoved 53 = .ok (.aload_n 0, 1) := dk_42 (dk_at dksX3_isMoved_2 8 rfl rfl)
theorem dX3_isMoved_54 : decode cX3_isMoved 54 = .ok (.getfield 38, 3) := dk_180 0 38 (dk_at dksX3_isMoved_2 9 rfl rfl)
theorem dX3_isMoved_57 : decode cX3_isMoved 57 = .ok (.iload_n 1, 1) := dk_27 (dk_at dksX3_isMoved_2 12 rfl rfl)
theorem dX3_isMoved_58 : decode cX3_isMoved 58 = .ok (.iconst 1, 1) := dk_4 (dk_at dksX3_isMoved_2 13 rfl rfl)
theorem dX3_isMoved_59 : decode cX3_isMoved 59 = .ok (.iadd, 1) := dk_96 (dk_at dksX3_isMoved_2 14 rfl rfl)
theorem dX3_isMoved_60 : decode cX3_isMoved 60 = .ok (.iload_n 2, 1) := dk_28 (dk_at dksX3_isMoved_2 15 rfl rfl)
theorem dX3_isMoved_61 : decode cX3_isMoved 61 = .ok (.ifCond .eq 14, 3) := dk_153 0 14 (dk_at dksX3_isMoved_2 16 rfl rfl)
theorem dX3_isMoved_64 : decode cX3_isMoved 64 = .ok (.aload_n 0, 1) := dk_42 (dk_at dksX3_isMoved_2 19 rfl rfl)
theorem dX3_isMoved_65 : decode cX3_isMoved 65 = .ok (.getfield 38, 3) := dk_180 0 38 (dk_at dksX3_isMoved_2 20 rfl rfl)
theorem dX3_isMoved_68 : decode cX3_isMoved 68 = .ok (.iload_n 1, 1) := dk_27 (dk_at dksX3_isMoved_2 23 rfl rfl)
theorem dX3_isMoved_69 : decode cX3_isMoved 69 = .ok (.iconst 1, 1) := dk_4 (dk_at dksX3_isMoved_3 0 rfl rfl)
theorem dX3_isMoved_70 : decode cX3_isMoved 70 = .ok (.iadd, 1) := dk_96 (dk_at dksX3_isMoved_3 1 rfl rfl)
theorem dX3_isMoved_71 : decode cX3_isMoved 71 = .ok (.iaload, 1) := dk_46 (dk_at dksX3_isMoved_3 2 rfl rfl)
theorem dX3_isMoved_72 : decode cX3_isMoved 72 = .ok (.goto 12, 3) := dk_167 0 12 (dk_at dksX3_isMoved_3 3 rfl rfl)
theorem dX3_isMoved_75 : decode cX3_isMoved 75 = .ok (.aload_n 0, 1) := dk_42 (dk_at dksX3_isMoved_3 6 rfl rfl)
theorem dX3_isMoved_76 : decode cX3_isMoved 76 = .ok (.getfield 38, 3) := dk_180 0 38 (dk_at dksX3_isMoved_3 7 rfl rfl)
theorem dX3_isMoved_79 : decode cX3_isMoved 79 = .ok (.iload_n 1, 1) := dk_27 (dk_at dksX3_isMoved_3 10 rfl rfl)
theorem dX3_isMoved_80 : decode cX3_isMoved 80 = .ok (.iconst 1, 1) := dk_4 (dk_at dksX3_isMoved_3 11 rfl rfl)
theorem dX3_isMoved_81 : decode cX3_isMoved 81 = .ok (.iadd, 1) := dk_96 (dk_at dksX3_isMoved_3 12 rfl rfl)
theorem dX3_isMoved_82 : decode cX3_isMoved 82 = .ok (.iaload, 1) := dk_46 (dk_at dksX3_isMoved_3 13 rfl rfl)
theorem dX3_isMoved_83 : decode cX3_isMoved 83 = .ok (.ineg, 1) := dk_116 (dk_at dksX3_isMoved_3 14 rfl rfl)
theorem dX3_isMoved_84 : decode cX3_isMoved 84 = .ok (.iastore, 1) := dk_79 (dk_at dksX3_isMoved_3 15 rfl rfl)
theorem dX3_isMoved_85 : decode cX3_isMoved 85 = .ok (.iconst 1, 1) := dk_4 (dk_at dksX3_isMoved_3 16 rfl rfl)
theorem dX3_isMoved_86 : decode cX3_isMoved 86 = .ok (.ireturn, 1) := dk_172 (dk_at dksX3_isMoved_3 17 rfl rfl)
abbrev cX3_isSound : ByteArray := prog_16_method_98_code
def yX3_isSound : MethodName := ⟨RX3, "isSound", "(I)Z"⟩
def dkwX3_isSound_6 : List UInt8 := [42, 28, 182, 0, 124, 172]
abbrev dktX3_isSound_6 : List UInt8 := dkwX3_isSound_6 ++ []
def dkwX3_isSound_5 : List UInt8 := [153, 0, 14, 29, 184, 0, 136, 153, 0, 7, 4, 167, 0, 4, 3, 172, 42, 28, 182, 0, 155, 172, 4, 172]
abbrev dktX3_isSound_5 : List UInt8 := dkwX3_isSound_5 ++ dktX3_isSound_6
def dkwX3_isSound_4 : List UInt8 := [153, 0, 7, 4, 167, 0, 4, 3, 172, 28, 29, 21, 4, 184, 0, 112, 172, 42, 28, 182, 0, 124]
abbrev dktX3_isSound_4 : List UInt8 := dkwX3_isSound_4 ++ dktX3_isSound_5
def dkwX3_isSound_3 : List UInt8 := [42, 28, 182, 0, 109, 153, 0, 24, 29, 21, 4, 42, 180, 0, 38, 27, 7, 96, 46, 184, 0, 112]
abbrev dktX3_isSound_3 : List UInt8 := dkwX3_isSound_3 ++ dktX3_isSound_4
def dkwX3_isSound_2 : List UInt8 := [170, 0, 0, 0, 0, 110, 0, 0, 0, 0, 0, 0, 0, 6, 0, 0, 0, 42, 0, 0, 0, 110, 0, 0, 0, 81, 0, 0, 0, 110, 0, 0, 0, 73, 0, 0, 0, 102, 0, 0, 0, 108]
abbrev dktX3_isSound_2 : List UInt8 := dkwX3_isSound_2 ++ dktX3_isSound_3
def dkwX3_isSound_1 : List UInt8 := [96, 46, 54, 4, 42, 180, 0, 38, 27, 46]
abbrev dktX3_isSound_1 : List UInt8 := dkwX3_isSound_1 ++ dktX3_isSound_2
def dkwX3_isSound_0 : List UInt8 := [42, 180, 0, 38, 27, 4, 96, 46, 61, 42, 180, 0, 38, 27, 5, 96, 46, 62, 42, 180, 0, 38, 27, 6]
abbrev dktX3_isSound_0 : List UInt8 := dkwX3_isSound_0 ++ dktX3_isSound_1
theorem dksX3_isSound_0 : cX3_isSound.data.toList.drop 0 = dktX3_isSound_0 := by decide +kernel
theorem dksX3_isSound_1 : cX3_isSound.data.toList.drop 24 = dktX3_isSound_1 := dk_seg dksX3_isSound_0 24 rfl rfl
theorem dksX3_isSound_2 : cX3_isSound.data.toList.drop 34 = dktX3_isSound_2 := dk_seg dksX3_isSound_1 10 rfl rfl
theorem dksX3_isSound_3 : cX3_isSound.data.toList.drop 76 = dktX3_isSound_3 := dk_seg dksX3_isSound_2 42 rfl rfl
theorem dksX3_isSound_4 : cX3_isSound.data.toList.drop 98 = dktX3_isSound_4 := dk_seg dksX3_isSound_3 22 rfl rfl
theorem dksX3_isSound_5 : cX3_isSound.data.toList.drop 120 = dktX3_isSound_5 := dk_seg dksX3_isSound_4 22 rfl rfl
theorem dksX3_isSound_6 : cX3_isSound.data.toList.drop 144 = dktX3_isSound_6 := dk_seg dksX3_isSound_5 24 rfl rfl
theorem dX3_isSound_0 : decode cX3_isSound 0 = .ok (.aload_n 0, 1) := dk_42 (dk_at dksX3_isSound_0 0 rfl rfl)
theorem dX3_isSound_1 : decode cX3_isSound 1 = .ok (.getfield 38, 3) := dk_180 0 38 (dk_at dksX3_isSound_0 1 rfl rfl)
theorem dX3_isSound_4 : decode cX3_isSound 4 = .ok (.iload_n 1, 1) := dk_27 (dk_at dksX3_isSound_0 4 rfl rfl)
theorem dX3_isSound_5 : decode cX3_isSound 5 = .ok (.iconst 1, 1) := dk_4 (dk_at dksX3_isSound_0 5 rfl rfl)
theorem dX3_isSound_6 : decode cX3_isSound 6 = .ok (.iadd, 1) := dk_96 (dk_at dksX3_isSound_0 6 rfl rfl)
theorem dX3_isSound_7 : decode cX3_isSound 7 = .ok (.iaload, 1) := dk_46 (dk_at dksX3_isSound_0 7 rfl rfl)
theorem dX3_isSound_8 : decode cX3_isSound 8 = .ok (.istore_n 2, 1) := dk_61 (dk_at dksX3_isSound_0 8 rfl rfl)
theorem dX3_isSound_9 : decode cX3_isSound 9 = .ok (.aload_n 0, 1) := dk_42 (dk_at dksX3_isSound_0 9 rfl rfl)
theorem dX3_isSound_10 : decode cX3_isSound 10 = .ok (.getfield 38, 3) := dk_180 0 38 (dk_at dksX3_isSound_0 10 rfl rfl)
theorem dX3_isSound_13 : decode cX3_isSound 13 = .ok (.iload_n 1, 1) := dk_27 (dk_at dksX3_isSound_0 13 rfl rfl)
theorem dX3_isSound_14 : decode cX3_isSound 14 = .ok (.iconst 2, 1) := dk_5 (dk_at dksX3_isSound_0 14 rfl rfl)
theorem dX3_isSound_15 : decode cX3_isSound 15 = .ok (.iadd, 1) := dk_96 (dk_at dksX3_isSound_0 15 rfl rfl)
theorem dX3_isSound_16 : decode cX3_isSound 16 = .ok (.iaload, 1) := dk_46 (dk_at dksX3_isSound_0 16 rfl rfl)
theorem dX3_isSound_17 : decode cX3_isSound 17 = .ok (.istore_n 3, 1) := dk_62 (dk_at dksX3_isSound_0 17 rfl rfl)
theorem dX3_isSound_18 : decode cX3_isSound 18 = .ok (.aload_n 0, 1) := dk_42 (dk_at dksX3_isSound_0 18 rfl rfl)
theorem dX3_isSound_19 : decode cX3_isSound 19 = .ok (.getfield 38, 3) := dk_180 0 38 (dk_at dksX3_isSound_0 19 rfl rfl)
theorem dX3_isSound_22 : decode cX3_isSound 22 = .ok (.iload_n 1, 1) := dk_27 (dk_at dksX3_isSound_0 22 rfl rfl)
theorem dX3_isSound_23 : decode cX3_isSound 23 = .ok (.iconst 3, 1) := dk_6 (dk_at dksX3_isSound_0 23 rfl rfl)
theorem dX3_isSound_24 : decode cX3_isSound 24 = .ok (.iadd, 1) := dk_96 (dk_at dksX3_isSound_1 0 rfl rfl)
theorem dX3_isSound_25 : decode cX3_isSound 25 = .ok (.iaload, 1) := dk_46 (dk_at dksX3_isSound_1 1 rfl rfl)
theorem dX3_isSound_26 : decode cX3_isSound 26 = .ok (.istore 4, 2) := dk_54 4 (dk_at dksX3_isSound_1 2 rfl rfl)
theorem dX3_isSound_28 : decode cX3_isSound 28 = .ok (.aload_n 0, 1) := dk_42 (dk_at dksX3_isSound_1 4 rfl rfl)
theorem dX3_isSound_29 : decode cX3_isSound 29 = .ok (.getfield 38, 3) := dk_180 0 38 (dk_at dksX3_isSound_1 5 rfl rfl)
theorem dX3_isSound_32 : decode cX3_isSound 32 = .ok (.iload_n 1, 1) := dk_27 (dk_at dksX3_isSound_1 8 rfl rfl)
theorem dX3_isSound_33 : decode cX3_isSound 33 = .ok (.iaload, 1) := dk_46 (dk_at dksX3_isSound_1 9 rfl rfl)
theorem dX3_isSound_34 : decode cX3_isSound 34 = .ok (.tableswitch 110 0 6 #[42, 110, 81, 110, 73, 102, 108], 42) := by decide +kernel
theorem dX3_isSound_76 : decode cX3_isSound 76 = .ok (.aload_n 0, 1) := dk_42 (dk_at dksX3_isSound_3 0 rfl rfl)
theorem dX3_isSound_77 : decode cX3_isSound 77 = .ok (.iload_n 2, 1) := dk_28 (dk_at dksX3_isSound_3 1 rfl rfl)
theorem dX3_isSound_78 : decode cX3_isSound 78 = .ok (.invokevirtual 109, 3) := dk_182 0 109 (dk_at dksX3_isSound_3 2 rfl rfl)
theorem dX3_isSound_81 : decode cX3_isSound 81 = .ok (.ifCond .eq 24, 3) := dk_153 0 24 (dk_at dksX3_isSound_3 5 rfl rfl)
theorem dX3_isSound_84 : decode cX3_isSound 84 = .ok (.iload_n 3, 1) := dk_29 (dk_at dksX3_isSound_3 8 rfl rfl)
theorem dX3_isSound_85 : decode cX3_isSound 85 = .ok (.iload 4, 2) := dk_21 4 (dk_at dksX3_isSound_3 9 rfl rfl)
theorem dX3_isSound_87 : decode cX3_isSound 87 = .ok (.aload_n 0, 1) := dk_42 (dk_at dksX3_isSound_3 11 rfl rfl)
theorem dX3_isSound_88 : decode cX3_isSound 88 = .ok (.getfield 38, 3) := dk_180 0 38 (dk_at dksX3_isSound_3 12 rfl rfl)
theorem dX3_isSound_91 : decode cX3_isSound 91 = .ok (.iload_n 1, 1) := dk_27 (dk_at dksX3_isSound_3 15 rfl rfl)
theorem dX3_isSound_92 : decode cX3_isSound 92 = .ok (.iconst 4, 1) := dk_7 (dk_at dksX3_isSound_3 16 rfl rfl)
theorem dX3_isSound_93 : decode cX3_isSound 93 = .ok (.iadd, 1) := dk_96 (dk_at dksX3_isSound_3 17 rfl rfl)
theorem dX3_isSound_94 : decode cX3_isSound 94 = .ok (.iaload, 1) := dk_46 (dk_at dksX3_isSound_3 18 rfl rfl)
theorem dX3_isSound_95 : decode cX3_isSound 95 = .ok (.invokestatic 112, 3) := dk_184 0 112 (dk_at dksX3_isSound_3 19 rfl rfl)
theorem dX3_isSound_98 : decode cX3_isSound 98 = .ok (.ifCond .eq 7, 3) := dk_153 0 7 (dk_at dksX3_isSound_4 0 rfl rfl)
theorem dX3_isSound_101 : decode cX3_isSound 101 = .ok (.iconst 1, 1) := dk_4 (dk_at dksX3_isSound_4 3 rfl rfl)
theorem dX3_isSound_102 : decode cX3_isSound 102 = .ok (.goto 4, 3) := dk_167 0 4 (dk_at dksX3_isSound_4 4 rfl rfl)
theorem dX3_isSound_105 : decode cX3_isSound 105 = .ok (.iconst 0, 1) := dk_3 (dk_at dksX3_isSound_4 7 rfl rfl)
theorem dX3_isSound_106 : decode cX3_isSound 106 = .ok (.ireturn, 1) := dk_172 (dk_at dksX3_isSound_4 8 rfl rfl)
theorem dX3_isSound_107 : decode cX3_isSound 107 = .ok (.iload_n 2, 1) := dk_28 (dk_at dksX3_isSound_4 9 rfl rfl)
theorem dX3_isSound_108 : decode cX3_isSound 108 = .ok (.iload_n 3, 1) := dk_29 (dk_at dksX3_isSound_4 10 rfl rfl)
theorem dX3_isSound_109 : decode cX3_isSound 109 = .ok (.iload 4, 2) := dk_21 4 (dk_at dksX3_isSound_4 11 rfl rfl)
theorem dX3_isSound_111 : decode cX3_isSound 111 = .ok (.invokestatic 112, 3) := dk_184 0 112 (dk_at dksX3_isSound_4 13 rfl rfl)
theorem dX3_isSound_114 : decode cX3_isSound 114 = .ok (.ireturn, 1) := dk_172 (dk_at dksX3_isSound_4 16 rfl rfl)
theorem dX3_isSound_115 : decode cX3_isSound 115 = .ok (.aload_n 0, 1) := dk_42 (dk_at dksX3_isSound_4 17 rfl rfl)
theorem dX3_isSound_116 : decode cX3_isSound 116 = .ok (.iload_n 2, 1) := dk_28 (dk_at dksX3_isSound_4 18 rfl rfl)
theorem dX3_isSound_117 : decode cX3_isSound 117 = .ok (.invokevirtual 124, 3) := dk_182 0 124 (dk_at dksX3_isSound_4 19 rfl rfl)
theorem dX3_isSound_120 : decode cX3_isSound 120 = .ok (.ifCond .eq 14, 3) := dk_153 0 14 (dk_at dksX3_isSound_5 0 rfl rfl)
theorem dX3_isSound_123 : decode cX3_isSound 123 = .ok (.iload_n 3, 1) := dk_29 (dk_at dksX3_isSound_5 3 rfl rfl)
theorem dX3_isSound_124 : decode cX3_isSound 124 = .ok (.invokestatic 136, 3) := dk_184 0 136 (dk_at dksX3_isSound_5 4 rfl rfl)
theorem dX3_isSound_127 : decode cX3_isSound 127 = .ok (.ifCond .eq 7, 3) := dk_153 0 7 (dk_at dksX3_isSound_5 7 rfl rfl)
theorem dX3_isSound_130 : decode cX3_isSound 130 = .ok (.iconst 1, 1) := dk_4 (dk_at dksX3_isSound_5 10 rfl rfl)
theorem dX3_isSound_131 : decode cX3_isSound 131 = .ok (.goto 4, 3) := dk_167 0 4 (dk_at dksX3_isSound_5 11 rfl rfl)
theorem dX3_isSound_134 : decode cX3_isSound 134 = .ok (.iconst 0, 1) := dk_3 (dk_at dksX3_isSound_5 14 rfl rfl)
theorem dX3_isSound_135 : decode cX3_isSound 135 = .ok (.ireturn, 1) := dk_172 (dk_at dksX3_isSound_5 15 rfl rfl)
theorem dX3_isSound_136 : decode cX3_isSound 136 = .ok (.aload_n 0, 1) := dk_42 (dk_at dksX3_isSound_5 16 rfl rfl)
theorem dX3_isSound_137 : decode cX3_isSound 137 = .ok (.iload_n 2, 1) := dk_28 (dk_at dksX3_isSound_5 17 rfl rfl)
theorem dX3_isSound_138 : decode cX3_isSound 138 = .ok (.invokevirtual 155, 3) := dk_182 0 155 (dk_at dksX3_isSound_5 18 rfl rfl)
theorem dX3_isSound_141 : decode cX3_isSound 141 = .ok (.ireturn, 1) := dk_172 (dk_at dksX3_isSound_5 21 rfl rfl)
theorem dX3_isSound_142 : decode cX3_isSound 142 = .ok (.iconst 1, 1) := dk_4 (dk_at dksX3_isSound_5 22 rfl rfl)
theorem dX3_isSound_143 : decode cX3_isSound 143 = .ok (.ireturn, 1) := dk_172 (dk_at dksX3_isSound_5 23 rfl rfl)
theorem dX3_isSound_144 : decode cX3_isSound 144 = .ok (.aload_n 0, 1) := dk_42 (dk_at dksX3_isSound_6 0 rfl rfl)
theorem dX3_isSound_145 : decode cX3_isSound 145 = .ok (.iload_n 2, 1) := dk_28 (dk_at dksX3_isSound_6 1 rfl rfl)
theorem dX3_isSound_146 : decode cX3_isSound 146 = .ok (.invokevirtual 124, 3) := dk_182 0 124 (dk_at dksX3_isSound_6 2 rfl rfl)
theorem dX3_isSound_149 : decode cX3_isSound 149 = .ok (.ireturn, 1) := dk_172 (dk_at dksX3_isSound_6 5 rfl rfl)
abbrev cX3_does : ByteArray := prog_16_method_99_code
def yX3_does : MethodName := ⟨RX3, "does", "(I)I"⟩
def dkwX3_does_5 : List UInt8 := [182, 0, 158, 172, 42, 182, 0, 177, 172]
abbrev dktX3_does_5 : List UInt8 := dkwX3_does_5 ++ []
def dkwX3_does_4 : List UInt8 := [28, 29, 182, 0, 139, 172, 42, 28, 29, 182, 0, 142, 172, 42, 28, 29, 21, 4, 182, 0, 151, 172, 42, 28]
abbrev dktX3_does_4 : List UInt8 := dkwX3_does_4 ++ dktX3_does_5
def dkwX3_does_3 : List UInt8 := [42, 28, 29, 21, 4, 42, 180, 0, 38, 27, 7, 96, 46, 182, 0, 115, 172, 42, 28, 182, 0, 127, 172, 42]
abbrev dktX3_does_3 : List UInt8 := dkwX3_does_3 ++ dktX3_does_4
def dkwX3_does_2 : List UInt8 := [170, 0, 0, 0, 0, 90, 0, 0, 0, 0, 0, 0, 0, 5, 0, 0, 0, 38, 0, 0, 0, 55, 0, 0, 0, 61, 0, 0, 0, 68, 0, 0, 0, 75, 0, 0, 0, 84]
abbrev dktX3_does_2 : List UInt8 := dkwX3_does_2 ++ dktX3_does_3
def dkwX3_does_1 : List UInt8 := [96, 46, 54, 4, 42, 180, 0, 38, 27, 46]
abbrev dktX3_does_1 : List UInt8 := dkwX3_does_1 ++ dktX3_does_2
def dkwX3_does_0 : List UInt8 := [42, 180, 0, 38, 27, 4, 96, 46, 61, 42, 180, 0, 38, 27, 5, 96, 46, 62, 42, 180, 0, 38, 27, 6]
abbrev dktX3_does_0 : List UInt8 := dkwX3_does_0 ++ dktX3_does_1
theorem dksX3_does_0 : cX3_does.data.toList.drop 0 = dktX3_does_0 := by decide +kernel
theorem dksX3_does_1 : cX3_does.data.toList.drop 24 = dktX3_does_1 := dk_seg dksX3_does_0 24 rfl rfl
theorem dksX3_does_2 : cX3_does.data.toList.drop 34 = dktX3_does_2 := dk_seg dksX3_does_1 10 rfl rfl
theorem dksX3_does_3 : cX3_does.data.toList.drop 72 = dktX3_does_3 := dk_seg dksX3_does_2 38 rfl rfl
theorem dksX3_does_4 : cX3_does.data.toList.drop 96 = dktX3_does_4 := dk_seg dksX3_does_3 24 rfl rfl
theorem dksX3_does_5 : cX3_does.data.toList.drop 120 = dktX3_does_5 := dk_seg dksX3_does_4 24 rfl rfl
theorem dX3_does_0 : decode cX3_does 0 = .ok (.aload_n 0, 1) := dk_42 (dk_at dksX3_does_0 0 rfl rfl)
theorem dX3_does_1 : decode cX3_does 1 = .ok (.getfield 38, 3) := dk_180 0 38 (dk_at dksX3_does_0 1 rfl rfl)
theorem dX3_does_4 : decode cX3_does 4 = .ok (.iload_n 1, 1) := dk_27 (dk_at dksX3_does_0 4 rfl rfl)
theorem dX3_does_5 : decode cX3_does 5 = .ok (.iconst 1, 1) := dk_4 (dk_at dksX3_does_0 5 rfl rfl)
theorem dX3_does_6 : decode cX3_does 6 = .ok (.iadd, 1) := dk_96 (dk_at dksX3_does_0 6 rfl rfl)
theorem dX3_does_7 : decode cX3_does 7 = .ok (.iaload, 1) := dk_46 (dk_at dksX3_does_0 7 rfl rfl)
theorem dX3_does_8 : decode cX3_does 8 = .ok (.istore_n 2, 1) := dk_61 (dk_at dksX3_does_0 8 rfl rfl)
theorem dX3_does_9 : decode cX3_does 9 = .ok (.aload_n 0, 1) := dk_42 (dk_at dksX3_does_0 9 rfl rfl)
theorem dX3_does_10 : decode cX3_does 10 = .ok (.getfield 38, 3) := dk_180 0 38 (dk_at dksX3_does_0 10 rfl rfl)
theorem dX3_does_13 : decode cX3_does 13 = .ok (.iload_n 1, 1) := dk_27 (dk_at dksX3_does_0 13 rfl rfl)
theorem dX3_does_14 : decode cX3_does 14 = .ok (.iconst 2, 1) := dk_5 (dk_at dksX3_does_0 14 rfl rfl)
theorem dX3_does_15 : decode cX3_does 15 = .ok (.iadd, 1) := dk_96 (dk_at dksX3_does_0 15 rfl rfl)
theorem dX3_does_16 : decode cX3_does 16 = .ok (.iaload, 1) := dk_46 (dk_at dksX3_does_0 16 rfl rfl)
theorem dX3_does_17 : decode cX3_does 17 = .ok (.istore_n 3, 1) := dk_62 (dk_at dksX3_does_0 17 rfl rfl)
theorem dX3_does_18 : decode cX3_does 18 = .ok (.aload_n 0, 1) := dk_42 (dk_at dksX3_does_0 18 rfl rfl)
theorem dX3_does_19 : decode cX3_does 19 = .ok (.getfield 38, 3) := dk_180 0 38 (dk_at dksX3_does_0 19 rfl rfl)
theorem dX3_does_22 : decode cX3_does 22 = .ok (.iload_n 1, 1) := dk_27 (dk_at dksX3_does_0 22 rfl rfl)
theorem dX3_does_23 : decode cX3_does 23 = .ok (.iconst 3, 1) := dk_6 (dk_at dksX3_does_0 23 rfl rfl)
theorem dX3_does_24 : decode cX3_does 24 = .ok (.iadd, 1) := dk_96 (dk_at dksX3_does_1 0 rfl rfl)
theorem dX3_does_25 : decode cX3_does 25 = .ok (.iaload, 1) := dk_46 (dk_at dksX3_does_1 1 rfl rfl)
theorem dX3_does_26 : decode cX3_does 26 = .ok (.istore 4, 2) := dk_54 4 (dk_at dksX3_does_1 2 rfl rfl)
theorem dX3_does_28 : decode cX3_does 28 = .ok (.aload_n 0, 1) := dk_42 (dk_at dksX3_does_1 4 rfl rfl)
theorem dX3_does_29 : decode cX3_does 29 = .ok (.getfield 38, 3) := dk_180 0 38 (dk_at dksX3_does_1 5 rfl rfl)
theorem dX3_does_32 : decode cX3_does 32 = .ok (.iload_n 1, 1) := dk_27 (dk_at dksX3_does_1 8 rfl rfl)
theorem dX3_does_33 : decode cX3_does 33 = .ok (.iaload, 1) := dk_46 (dk_at dksX3_does_1 9 rfl rfl)
theorem dX3_does_34 : decode cX3_does 34 = .ok (.tableswitch 90 0 5 #[38, 55, 61, 68, 75, 84], 38) := by decide +kernel
theorem dX3_does_72 : decode cX3_does 72 = .ok (.aload_n 0, 1) := dk_42 (dk_at dksX3_does_3 0 rfl rfl)
theorem dX3_does_73 : decode cX3_does 73 = .ok (.iload_n 2, 1) := dk_28 (dk_at dksX3_does_3 1 rfl rfl)
theorem dX3_does_74 : decode cX3_does 74 = .ok (.iload_n 3, 1) := dk_29 (dk_at dksX3_does_3 2 rfl rfl)
theorem dX3_does_75 : decode cX3_does 75 = .ok (.iload 4, 2) := dk_21 4 (dk_at dksX3_does_3 3 rfl rfl)
theorem dX3_does_77 : decode cX3_does 77 = .ok (.aload_n 0, 1) := dk_42 (dk_at dksX3_does_3 5 rfl rfl)
theorem dX3_does_78 : decode cX3_does 78 = .ok (.getfield 38, 3) := dk_180 0 38 (dk_at dksX3_does_3 6 rfl rfl)
theorem dX3_does_81 : decode cX3_does 81 = .ok (.iload_n 1, 1) := dk_27 (dk_at dksX3_does_3 9 rfl rfl)
theorem dX3_does_82 : decode cX3_does 82 = .ok (.iconst 4, 1) := dk_7 (dk_at dksX3_does_3 10 rfl rfl)
theorem dX3_does_83 : decode cX3_does 83 = .ok (.iadd, 1) := dk_96 (dk_at dksX3_does_3 11 rfl rfl)
theorem dX3_does_84 : decode cX3_does 84 = .ok (.iaload, 1) := dk_46 (dk_at dksX3_does_3 12 rfl rfl)
theorem dX3_does_85 : decode cX3_does 85 = .ok (.invokevirtual 115, 3) := dk_182 0 115 (dk_at dksX3_does_3 13 rfl rfl)
theorem dX3_does_88 : decode cX3_does 88 = .ok (.ireturn, 1) := dk_172 (dk_at dksX3_does_3 16 rfl rfl)
theorem dX3_does_89 : decode cX3_does 89 = .ok (.aload_n 0, 1) := dk_42 (dk_at dksX3_does_3 17 rfl rfl)
theorem dX3_does_90 : decode cX3_does 90 = .ok (.iload_n 2, 1) := dk_28 (dk_at dksX3_does_3 18 rfl rfl)
theorem dX3_does_91 : decode cX3_does 91 = .ok (.invokevirtual 127, 3) := dk_182 0 127 (dk_at dksX3_does_3 19 rfl rfl)
theorem dX3_does_94 : decode cX3_does 94 = .ok (.ireturn, 1) := dk_172 (dk_at dksX3_does_3 22 rfl rfl)
theorem dX3_does_95 : decode cX3_does 95 = .ok (.aload_n 0, 1) := dk_42 (dk_at dksX3_does_3 23 rfl rfl)
theorem dX3_does_96 : decode cX3_does 96 = .ok (.iload_n 2, 1) := dk_28 (dk_at dksX3_does_4 0 rfl rfl)
theorem dX3_does_97 : decode cX3_does 97 = .ok (.iload_n 3, 1) := dk_29 (dk_at dksX3_does_4 1 rfl rfl)
theorem dX3_does_98 : decode cX3_does 98 = .ok (.invokevirtual 139, 3) := dk_182 0 139 (dk_at dksX3_does_4 2 rfl rfl)
theorem dX3_does_101 : decode cX3_does 101 = .ok (.ireturn, 1) := dk_172 (dk_at dksX3_does_4 5 rfl rfl)
theorem dX3_does_102 : decode cX3_does 102 = .ok (.aload_n 0, 1) := dk_42 (dk_at dksX3_does_4 6 rfl rfl)
theorem dX3_does_103 : decode cX3_does 103 = .ok (.iload_n 2, 1) := dk_28 (dk_at dksX3_does_4 7 rfl rfl)
theorem dX3_does_104 : decode cX3_does 104 = .ok (.iload_n 3, 1) := dk_29 (dk_at dksX3_does_4 8 rfl rfl)
theorem dX3_does_105 : decode cX3_does 105 = .ok (.invokevirtual 142, 3) := dk_182 0 142 (dk_at dksX3_does_4 9 rfl rfl)
theorem dX3_does_108 : decode cX3_does 108 = .ok (.ireturn, 1) := dk_172 (dk_at dksX3_does_4 12 rfl rfl)
theorem dX3_does_109 : decode cX3_does 109 = .ok (.aload_n 0, 1) := dk_42 (dk_at dksX3_does_4 13 rfl rfl)
theorem dX3_does_110 : decode cX3_does 110 = .ok (.iload_n 2, 1) := dk_28 (dk_at dksX3_does_4 14 rfl rfl)
theorem dX3_does_111 : decode cX3_does 111 = .ok (.iload_n 3, 1) := dk_29 (dk_at dksX3_does_4 15 rfl rfl)
theorem dX3_does_112 : decode cX3_does 112 = .ok (.iload 4, 2) := dk_21 4 (dk_at dksX3_does_4 16 rfl rfl)
theorem dX3_does_114 : decode cX3_does 114 = .ok (.invokevirtual 151, 3) := dk_182 0 151 (dk_at dksX3_does_4 18 rfl rfl)
theorem dX3_does_117 : decode cX3_does 117 = .ok (.ireturn, 1) := dk_172 (dk_at dksX3_does_4 21 rfl rfl)
theorem dX3_does_118 : decode cX3_does 118 = .ok (.aload_n 0, 1) := dk_42 (dk_at dksX3_does_4 22 rfl rfl)
theorem dX3_does_119 : decode cX3_does 119 = .ok (.iload_n 2, 1) := dk_28 (dk_at dksX3_does_4 23 rfl rfl)
theorem dX3_does_120 : decode cX3_does 120 = .ok (.invokevirtual 158, 3) := dk_182 0 158 (dk_at dksX3_does_5 0 rfl rfl)
theorem dX3_does_123 : decode cX3_does 123 = .ok (.ireturn, 1) := dk_172 (dk_at dksX3_does_5 3 rfl rfl)
theorem dX3_does_124 : decode cX3_does 124 = .ok (.aload_n 0, 1) := dk_42 (dk_at dksX3_does_5 4 rfl rfl)
theorem dX3_does_125 : decode cX3_does 125 = .ok (.invokevirtual 177, 3) := dk_182 0 177 (dk_at dksX3_does_5 5 rfl rfl)
theorem dX3_does_128 : decode cX3_does 128 = .ok (.ireturn, 1) := dk_172 (dk_at dksX3_does_5 8 rfl rfl)
abbrev cX3_isBehind : ByteArray := prog_16_method_100_code
def yX3_isBehind : MethodName := ⟨RX3, "isBehind", "(ZI)V"⟩
def dkwX3_isBehind_1 : List UInt8 := [180, 0, 57, 167, 0, 4, 3, 181, 1, 44, 42, 16, 10, 181, 0, 54, 42, 28, 181, 0, 57, 177]
abbrev dktX3_isBehind_1 : List UInt8 := dkwX3_isBehind_1 ++ []
def dkwX3_isBehind_0 : List UInt8 := [42, 27, 153, 0, 10, 42, 180, 0, 54, 167, 0, 4, 3, 181, 0, 60, 42, 27, 153, 0, 10, 42]
abbrev dktX3_isBehind_0 : List UInt8 := dkwX3_isBehind_0 ++ dktX3_isBehind_1
theorem dksX3_isBehind_0 : cX3_isBehind.data.toList.drop 0 = dktX3_isBehind_0 := by decide +kernel
theorem dksX3_isBehind_1 : cX3_isBehind.data.toList.drop 22 = dktX3_isBehind_1 := dk_seg dksX3_isBehind_0 22 rfl rfl
theorem dX3_isBehind_0 : decode cX3_isBehind 0 = .ok (.aload_n 0, 1) := dk_42 (dk_at dksX3_isBehind_0 0 rfl rfl)
theorem dX3_isBehind_1 : decode cX3_isBehind 1 = .ok (.iload_n 1, 1) := dk_27 (dk_at dksX3_isBehind_0 1 rfl rfl)
theorem dX3_isBehind_2 : decode cX3_isBehind 2 = .ok (.ifCond .eq 10, 3) := dk_153 0 10 (dk_at dksX3_isBehind_0 2 rfl rfl)
theorem dX3_isBehind_5 : decode cX3_isBehind 5 = .ok (.aload_n 0, 1) := dk_42 (dk_at dksX3_isBehind_0 5 rfl rfl)
theorem dX3_isBehind_6 : decode cX3_isBehind 6 = .ok (.getfield 54, 3) := dk_180 0 54 (dk_at dksX3_isBehind_0 6 rfl rfl)
theorem dX3_isBehind_9 : decode cX3_isBehind 9 = .ok (.goto 4, 3) := dk_167 0 4 (dk_at dksX3_isBehind_0 9 rfl rfl)
theorem dX3_isBehind_12 : decode cX3_isBehind 12 = .ok (.iconst 0, 1) := dk_3 (dk_at dksX3_isBehind_0 12 rfl rfl)
theorem dX3_isBehind_13 : decode cX3_isBehind 13 = .ok (.putfield 60, 3) := dk_181 0 60 (dk_at dksX3_isBehind_0 13 rfl rfl)
theorem dX3_isBehind_16 : decode cX3_isBehind 16 = .ok (.aload_n 0, 1) := dk_42 (dk_at dksX3_isBehind_0 16 rfl rfl)
theorem dX3_isBehind_17 : decode cX3_isBehind 17 = .ok (.iload_n 1, 1) := dk_27 (dk_at dksX3_isBehind_0 17 rfl rfl)
theorem dX3_isBehind_18 : decode cX3_isBehind 18 = .ok (.ifCond .eq 10, 3) := dk_153 0 10 (dk_at dksX3_isBehind_0 18 rfl rfl)
theorem dX3_isBehind_21 : decode cX3_isBehind 21 = .ok (.aload_n 0, 1) := dk_42 (dk_at dksX3_isBehind_0 21 rfl rfl)
theorem dX3_isBehind_22 : decode cX3_isBehind 22 = .ok (.getfield 57, 3) := dk_180 0 57 (dk_at dksX3_isBehind_1 0 rfl rfl)
theorem dX3_isBehind_25 : decode cX3_isBehind 25 = .ok (.goto 4, 3) := dk_167 0 4 (dk_at dksX3_isBehind_1 3 rfl rfl)
theorem dX3_isBehind_28 : decode cX3_isBehind 28 = .ok (.iconst 0, 1) := dk_3 (dk_at dksX3_isBehind_1 6 rfl rfl)
theorem dX3_isBehind_29 : decode cX3_isBehind 29 = .ok (.putfield 300, 3) := dk_181 1 44 (dk_at dksX3_isBehind_1 7 rfl rfl)
theorem dX3_isBehind_32 : decode cX3_isBehind 32 = .ok (.aload_n 0, 1) := dk_42 (dk_at dksX3_isBehind_1 10 rfl rfl)
theorem dX3_isBehind_33 : decode cX3_isBehind 33 = .ok (.bipush 10, 2) := dk_16 10 (dk_at dksX3_isBehind_1 11 rfl rfl)
theorem dX3_isBehind_35 : decode cX3_isBehind 35 = .ok (.putfield 54, 3) := dk_181 0 54 (dk_at dksX3_isBehind_1 13 rfl rfl)
theorem dX3_isBehind_38 : decode cX3_isBehind 38 = .ok (.aload_n 0, 1) := dk_42 (dk_at dksX3_isBehind_1 16 rfl rfl)
theorem dX3_isBehind_39 : decode cX3_isBehind 39 = .ok (.iload_n 2, 1) := dk_28 (dk_at dksX3_isBehind_1 17 rfl rfl)
theorem dX3_isBehind_40 : decode cX3_isBehind 40 = .ok (.putfield 57, 3) := dk_181 0 57 (dk_at dksX3_isBehind_1 18 rfl rfl)
theorem dX3_isBehind_43 : decode cX3_isBehind 43 = .ok (.return_, 1) := dk_177 (dk_at dksX3_isBehind_1 21 rfl rfl)
abbrev cX3_errorPosition : ByteArray := prog_16_method_102_code
def yX3_errorPosition : MethodName := ⟨RX3, "errorPosition", "()I"⟩
def dkwX3_errorPosition_1 : List UInt8 := [42, 180, 0, 22, 172]
abbrev dktX3_errorPosition_1 : List UInt8 := dkwX3_errorPosition_1 ++ []
def dkwX3_errorPosition_0 : List UInt8 := [42, 42, 180, 0, 22, 156, 0, 7, 4, 167, 0, 4, 3, 4, 182, 0, 91, 153, 0, 7, 3, 167, 0, 7]
abbrev dktX3_errorPosition_0 : List UInt8 := dkwX3_errorPosition_0 ++ dktX3_errorPosition_1
theorem dksX3_errorPosition_0 : cX3_errorPosition.data.toList.drop 0 = dktX3_errorPosition_0 := by decide +kernel
theorem dksX3_errorPosition_1 : cX3_errorPosition.data.toList.drop 24 = dktX3_errorPosition_1 := dk_seg dksX3_errorPosition_0 24 rfl rfl
theorem dX3_errorPosition_0 : decode cX3_errorPosition 0 = .ok (.aload_n 0, 1) := dk_42 (dk_at dksX3_errorPosition_0 0 rfl rfl)
theorem dX3_errorPosition_1 : decode cX3_errorPosition 1 = .ok (.aload_n 0, 1) := dk_42 (dk_at dksX3_errorPosition_0 1 rfl rfl)
theorem dX3_errorPosition_2 : decode cX3_errorPosition 2 = .ok (.getfield 22, 3) := dk_180 0 22 (dk_at dksX3_errorPosition_0 2 rfl rfl)
theorem dX3_errorPosition_5 : decode cX3_errorPosition 5 = .ok (.ifCond .ge 7, 3) := dk_156 0 7 (dk_at dksX3_errorPosition_0 5 rfl rfl)
theorem dX3_errorPosition_8 : decode cX3_errorPosition 8 = .ok (.iconst 1, 1) := dk_4 (dk_at dksX3_errorPosition_0 8 rfl rfl)
theorem dX3_errorPosition_9 : decode cX3_errorPosition 9 = .ok (.goto 4, 3) := dk_167 0 4 (dk_at dksX3_errorPosition_0 9 rfl rfl)
theorem dX3_errorPosition_12 : decode cX3_errorPosition 12 = .ok (.iconst 0, 1) := dk_3 (dk_at dksX3_errorPosition_0 12 rfl rfl)
theorem dX3_errorPosition_13 : decode cX3_errorPosition 13 = .ok (.iconst 1, 1) := dk_4 (dk_at dksX3_errorPosition_0 13 rfl rfl)
theorem dX3_errorPosition_14 : decode cX3_errorPosition 14 = .ok (.invokevirtual 91, 3) := dk_182 0 91 (dk_at dksX3_errorPosition_0 14 rfl rfl)
theorem dX3_errorPosition_17 : decode cX3_errorPosition 17 = .ok (.ifCond .eq 7, 3) := dk_153 0 7 (dk_at dksX3_errorPosition_0 17 rfl rfl)
theorem dX3_errorPosition_20 : decode cX3_errorPosition 20 = .ok (.iconst 0, 1) := dk_3 (dk_at dksX3_errorPosition_0 20 rfl rfl)
theorem dX3_errorPosition_21 : decode cX3_errorPosition 21 = .ok (.goto 7, 3) := dk_167 0 7 (dk_at dksX3_errorPosition_0 21 rfl rfl)
theorem dX3_errorPosition_24 : decode cX3_errorPosition 24 = .ok (.aload_n 0, 1) := dk_42 (dk_at dksX3_errorPosition_1 0 rfl rfl)
theorem dX3_errorPosition_25 : decode cX3_errorPosition 25 = .ok (.getfield 22, 3) := dk_180 0 22 (dk_at dksX3_errorPosition_1 1 rfl rfl)
theorem dX3_errorPosition_28 : decode cX3_errorPosition 28 = .ok (.ireturn, 1) := dk_172 (dk_at dksX3_errorPosition_1 4 rfl rfl)
abbrev cX3_refusal : ByteArray := prog_16_method_103_code
def yX3_refusal : MethodName := ⟨RX3, "refusal", "(ZZ)I"⟩
def dkwX3_refusal_2 : List UInt8 := [42, 180, 0, 60, 167, 0, 18, 28, 153, 0, 10, 42, 180, 0, 57, 167, 0, 7, 42, 180, 0, 54, 172]
abbrev dktX3_refusal_2 : List UInt8 := dkwX3_refusal_2 ++ []
def dkwX3_refusal_1 : List UInt8 := [4, 182, 0, 91, 153, 0, 5, 3, 172, 27, 153, 0, 21, 28, 153, 0, 10, 42, 180, 1, 44, 167, 0, 25]
abbrev dktX3_refusal_1 : List UInt8 := dkwX3_refusal_1 ++ dktX3_refusal_2
def dkwX3_refusal_0 : List UInt8 := [42, 42, 180, 0, 54, 153, 0, 14, 27, 153, 0, 14, 42, 180, 0, 60, 154, 0, 7, 4, 167, 0, 4, 3]
abbrev dktX3_refusal_0 : List UInt8 := dkwX3_refusal_0 ++ dktX3_refusal_1
theorem dksX3_refusal_0 : cX3_refusal.data.toList.drop 0 = dktX3_refusal_0 := by decide +kernel
theorem dksX3_refusal_1 : cX3_refusal.data.toList.drop 24 = dktX3_refusal_1 := dk_seg dksX3_refusal_0 24 rfl rfl
theorem dksX3_refusal_2 : cX3_refusal.data.toList.drop 48 = dktX3_refusal_2 := dk_seg dksX3_refusal_1 24 rfl rfl
theorem dX3_refusal_0 : decode cX3_refusal 0 = .ok (.aload_n 0, 1) := dk_42 (dk_at dksX3_refusal_0 0 rfl rfl)
theorem dX3_refusal_1 : decode cX3_refusal 1 = .ok (.aload_n 0, 1) := dk_42 (dk_at dksX3_refusal_0 1 rfl rfl)
theorem dX3_refusal_2 : decode cX3_refusal 2 = .ok (.getfield 54, 3) := dk_180 0 54 (dk_at dksX3_refusal_0 2 rfl rfl)
theorem dX3_refusal_5 : decode cX3_refusal 5 = .ok (.ifCond .eq 14, 3) := dk_153 0 14 (dk_at dksX3_refusal_0 5 rfl rfl)
theorem dX3_refusal_8 : decode cX3_refusal 8 = .ok (.iload_n 1, 1) := dk_27 (dk_at dksX3_refusal_0 8 rfl rfl)
theorem dX3_refusal_9 : decode cX3_refusal 9 = .ok (.ifCond .eq 14, 3) := dk_153 0 14 (dk_at dksX3_refusal_0 9 rfl rfl)
theorem dX3_refusal_12 : decode cX3_refusal 12 = .ok (.aload_n 0, 1) := dk_42 (dk_at dksX3_refusal_0 12 rfl rfl)
theorem dX3_refusal_13 : decode cX3_refusal 13 = .ok (.getfield 60, 3) := dk_180 0 60 (dk_at dksX3_refusal_0 13 rfl rfl)
theorem dX3_refusal_16 : decode cX3_refusal 16 = .ok (.ifCond .ne 7, 3) := dk_154 0 7 (dk_at dksX3_refusal_0 16 rfl rfl)
theorem dX3_refusal_19 : decode cX3_refusal 19 = .ok (.iconst 1, 1) := dk_4 (dk_at dksX3_refusal_0 19 rfl rfl)
theorem dX3_refusal_20 : decode cX3_refusal 20 = .ok (.goto 4, 3) := dk_167 0 4 (dk_at dksX3_refusal_0 20 rfl rfl)
theorem dX3_refusal_23 : decode cX3_refusal 23 = .ok (.iconst 0, 1) := dk_3 (dk_at dksX3_refusal_0 23 rfl rfl)
theorem dX3_refusal_24 : decode cX3_refusal 24 = .ok (.iconst 1, 1) := dk_4 (dk_at dksX3_refusal_1 0 rfl rfl)
theorem dX3_refusal_25 : decode cX3_refusal 25 = .ok (.invokevirtual 91, 3) := dk_182 0 91 (dk_at dksX3_refusal_1 1 rfl rfl)
theorem dX3_refusal_28 : decode cX3_refusal 28 = .ok (.ifCond .eq 5, 3) := dk_153 0 5 (dk_at dksX3_refusal_1 4 rfl rfl)
theorem dX3_refusal_31 : decode cX3_refusal 31 = .ok (.iconst 0, 1) := dk_3 (dk_at dksX3_refusal_1 7 rfl rfl)
theorem dX3_refusal_32 : decode cX3_refusal 32 = .ok (.ireturn, 1) := dk_172 (dk_at dksX3_refusal_1 8 rfl rfl)
theorem dX3_refusal_33 : decode cX3_refusal 33 = .ok (.iload_n 1, 1) := dk_27 (dk_at dksX3_refusal_1 9 rfl rfl)
theorem dX3_refusal_34 : decode cX3_refusal 34 = .ok (.ifCond .eq 21, 3) := dk_153 0 21 (dk_at dksX3_refusal_1 10 rfl rfl)
theorem dX3_refusal_37 : decode cX3_refusal 37 = .ok (.iload_n 2, 1) := dk_28 (dk_at dksX3_refusal_1 13 rfl rfl)
theorem dX3_refusal_38 : decode cX3_refusal 38 = .ok (.ifCond .eq 10, 3) := dk_153 0 10 (dk_at dksX3_refusal_1 14 rfl rfl)
theorem dX3_refusal_41 : decode cX3_refusal 41 = .ok (.aload_n 0, 1) := dk_42 (dk_at dksX3_refusal_1 17 rfl rfl)
theorem dX3_refusal_42 : decode cX3_refusal 42 = .ok (.getfield 300, 3) := dk_180 1 44 (dk_at dksX3_refusal_1 18 rfl rfl)
theorem dX3_refusal_45 : decode cX3_refusal 45 = .ok (.goto 25, 3) := dk_167 0 25 (dk_at dksX3_refusal_1 21 rfl rfl)
theorem dX3_refusal_48 : decode cX3_refusal 48 = .ok (.aload_n 0, 1) := dk_42 (dk_at dksX3_refusal_2 0 rfl rfl)
theorem dX3_refusal_49 : decode cX3_refusal 49 = .ok (.getfield 60, 3) := dk_180 0 60 (dk_at dksX3_refusal_2 1 rfl rfl)
theorem dX3_refusal_52 : decode cX3_refusal 52 = .ok (.goto 18, 3) := dk_167 0 18 (dk_at dksX3_refusal_2 4 rfl rfl)
theorem dX3_refusal_55 : decode cX3_refusal 55 = .ok (.iload_n 2, 1) := dk_28 (dk_at dksX3_refusal_2 7 rfl rfl)
theorem dX3_refusal_56 : decode cX3_refusal 56 = .ok (.ifCond .eq 10, 3) := dk_153 0 10 (dk_at dksX3_refusal_2 8 rfl rfl)
theorem dX3_refusal_59 : decode cX3_refusal 59 = .ok (.aload_n 0, 1) := dk_42 (dk_at dksX3_refusal_2 11 rfl rfl)
theorem dX3_refusal_60 : decode cX3_refusal 60 = .ok (.getfield 57, 3) := dk_180 0 57 (dk_at dksX3_refusal_2 12 rfl rfl)
theorem dX3_refusal_63 : decode cX3_refusal 63 = .ok (.goto 7, 3) := dk_167 0 7 (dk_at dksX3_refusal_2 15 rfl rfl)
theorem dX3_refusal_66 : decode cX3_refusal 66 = .ok (.aload_n 0, 1) := dk_42 (dk_at dksX3_refusal_2 18 rfl rfl)
theorem dX3_refusal_67 : decode cX3_refusal 67 = .ok (.getfield 54, 3) := dk_180 0 54 (dk_at dksX3_refusal_2 19 rfl rfl)
theorem dX3_refusal_70 : decode cX3_refusal 70 = .ok (.ireturn, 1) := dk_172 (dk_at dksX3_refusal_2 22 rfl rfl)
abbrev cX3_undo : ByteArray := prog_16_method_104_code
def yX3_undo : MethodName := ⟨RX3, "undo", "()I"⟩
def dkwX3_undo_2 : List UInt8 := [3, 184, 0, 44, 42, 180, 0, 48, 172]
abbrev dktX3_undo_2 : List UInt8 := dkwX3_undo_2 ++ []
def dkwX3_undo_1 : List UInt8 := [180, 0, 48, 4, 100, 181, 0, 48, 42, 180, 0, 19, 17, 0, 197, 42, 180, 0, 48, 104, 42, 180, 0, 9]
abbrev dktX3_undo_1 : List UInt8 := dkwX3_undo_1 ++ dktX3_undo_2
def dkwX3_undo_0 : List UInt8 := [42, 42, 180, 0, 48, 154, 0, 7, 4, 167, 0, 4, 3, 4, 182, 0, 91, 153, 0, 5, 3, 172, 42, 89]
abbrev dktX3_undo_0 : List UInt8 := dkwX3_undo_0 ++ dktX3_undo_1
theorem dksX3_undo_0 : cX3_undo.data.toList.drop 0 = dktX3_undo_0 := by decide +kernel
theorem dksX3_undo_1 : cX3_undo.data.toList.drop 24 = dktX3_undo_1 := dk_seg dksX3_undo_0 24 rfl rfl
theorem dksX3_undo_2 : cX3_undo.data.toList.drop 48 = dktX3_undo_2 := dk_seg dksX3_undo_1 24 rfl rfl
theorem dX3_undo_0 : decode cX3_undo 0 = .ok (.aload_n 0, 1) := dk_42 (dk_at dksX3_undo_0 0 rfl rfl)
theorem dX3_undo_1 : decode cX3_undo 1 = .ok (.aload_n 0, 1) := dk_42 (dk_at dksX3_undo_0 1 rfl rfl)
theorem dX3_undo_2 : decode cX3_undo 2 = .ok (.getfield 48, 3) := dk_180 0 48 (dk_at dksX3_undo_0 2 rfl rfl)
theorem dX3_undo_5 : decode cX3_undo 5 = .ok (.ifCond .ne 7, 3) := dk_154 0 7 (dk_at dksX3_undo_0 5 rfl rfl)
theorem dX3_undo_8 : decode cX3_undo 8 = .ok (.iconst 1, 1) := dk_4 (dk_at dksX3_undo_0 8 rfl rfl)
theorem dX3_undo_9 : decode cX3_undo 9 = .ok (.goto 4, 3) := dk_167 0 4 (dk_at dksX3_undo_0 9 rfl rfl)
theorem dX3_undo_12 : decode cX3_undo 12 = .ok (.iconst 0, 1) := dk_3 (dk_at dksX3_undo_0 12 rfl rfl)
theorem dX3_undo_13 : decode cX3_undo 13 = .ok (.iconst 1, 1) := dk_4 (dk_at dksX3_undo_0 13 rfl rfl)
theorem dX3_undo_14 : decode cX3_undo 14 = .ok (.invokevirtual 91, 3) := dk_182 0 91 (dk_at dksX3_undo_0 14 rfl rfl)
theorem dX3_undo_17 : decode cX3_undo 17 = .ok (.ifCond .eq 5, 3) := dk_153 0 5 (dk_at dksX3_undo_0 17 rfl rfl)
theorem dX3_undo_20 : decode cX3_undo 20 = .ok (.iconst 0, 1) := dk_3 (dk_at dksX3_undo_0 20 rfl rfl)
theorem dX3_undo_21 : decode cX3_undo 21 = .ok (.ireturn, 1) := dk_172 (dk_at dksX3_undo_0 21 rfl rfl)
theorem dX3_undo_22 : decode cX3_undo 22 = .ok (.aload_n 0, 1) := dk_42 (dk_at dksX3_undo_0 22 rfl rfl)
theorem dX3_undo_23 : decode cX3_undo 23 = .ok (.dup, 1) := dk_89 (dk_at dksX3_undo_0 23 rfl rfl)
theorem dX3_undo_24 : decode cX3_undo 24 = .ok (.getfield 48, 3) := dk_180 0 48 (dk_at dksX3_undo_1 0 rfl rfl)
theorem dX3_undo_27 : decode cX3_undo 27 = .ok (.iconst 1, 1) := dk_4 (dk_at dksX3_undo_1 3 rfl rfl)
theorem dX3_undo_28 : decode cX3_undo 28 = .ok (.isub, 1) := dk_100 (dk_at dksX3_undo_1 4 rfl rfl)
theorem dX3_undo_29 : decode cX3_undo 29 = .ok (.putfield 48, 3) := dk_181 0 48 (dk_at dksX3_undo_1 5 rfl rfl)
theorem dX3_undo_32 : decode cX3_undo 32 = .ok (.aload_n 0, 1) := dk_42 (dk_at dksX3_undo_1 8 rfl rfl)
theorem dX3_undo_33 : decode cX3_undo 33 = .ok (.getfield 19, 3) := dk_180 0 19 (dk_at dksX3_undo_1 9 rfl rfl)
theorem dX3_undo_36 : decode cX3_undo 36 = .ok (.sipush 197, 3) := dk_17 0 197 (dk_at dksX3_undo_1 12 rfl rfl)
theorem dX3_undo_39 : decode cX3_undo 39 = .ok (.aload_n 0, 1) := dk_42 (dk_at dksX3_undo_1 15 rfl rfl)
theorem dX3_undo_40 : decode cX3_undo 40 = .ok (.getfield 48, 3) := dk_180 0 48 (dk_at dksX3_undo_1 16 rfl rfl)
theorem dX3_undo_43 : decode cX3_undo 43 = .ok (.imul, 1) := dk_104 (dk_at dksX3_undo_1 19 rfl rfl)
theorem dX3_undo_44 : decode cX3_undo 44 = .ok (.aload_n 0, 1) := dk_42 (dk_at dksX3_undo_1 20 rfl rfl)
theorem dX3_undo_45 : decode cX3_undo 45 = .ok (.getfield 9, 3) := dk_180 0 9 (dk_at dksX3_undo_1 21 rfl rfl)
theorem dX3_undo_48 : decode cX3_undo 48 = .ok (.iconst 0, 1) := dk_3 (dk_at dksX3_undo_2 0 rfl rfl)
theorem dX3_undo_49 : decode cX3_undo 49 = .ok (.invokestatic 44, 3) := dk_184 0 44 (dk_at dksX3_undo_2 1 rfl rfl)
theorem dX3_undo_52 : decode cX3_undo 52 = .ok (.aload_n 0, 1) := dk_42 (dk_at dksX3_undo_2 4 rfl rfl)
theorem dX3_undo_53 : decode cX3_undo 53 = .ok (.getfield 48, 3) := dk_180 0 48 (dk_at dksX3_undo_2 5 rfl rfl)
theorem dX3_undo_56 : decode cX3_undo 56 = .ok (.ireturn, 1) := dk_172 (dk_at dksX3_undo_2 8 rfl rfl)
abbrev cX3_save : ByteArray := prog_16_method_105_code
def yX3_save : MethodName := ⟨RX3, "save", "()I"⟩
def dkwX3_save_1 : List UInt8 := [182, 0, 229, 172]
abbrev dktX3_save_1 : List UInt8 := dkwX3_save_1 ++ []
def dkwX3_save_0 : List UInt8 := [42, 3, 181, 0, 41, 42, 180, 0, 9, 3, 42, 180, 0, 16, 3, 184, 0, 44, 42, 4, 181, 1, 60, 42]
abbrev dktX3_save_0 : List UInt8 := dkwX3_save_0 ++ dktX3_save_1
theorem dksX3_save_0 : cX3_save.data.toList.drop 0 = dktX3_save_0 := by decide +kernel
theorem dksX3_save_1 : cX3_save.data.toList.drop 24 = dktX3_save_1 := dk_seg dksX3_save_0 24 rfl rfl
theorem dX3_save_0 : decode cX3_save 0 = .ok (.aload_n 0, 1) := dk_42 (dk_at dksX3_save_0 0 rfl rfl)
theorem dX3_save_1 : decode cX3_save 1 = .ok (.iconst 0, 1) := dk_3 (dk_at dksX3_save_0 1 rfl rfl)
theorem dX3_save_2 : decode cX3_save 2 = .ok (.putfield 41, 3) := dk_181 0 41 (dk_at dksX3_save_0 2 rfl rfl)
theorem dX3_save_5 : decode cX3_save 5 = .ok (.aload_n 0, 1) := dk_42 (dk_at dksX3_save_0 5 rfl rfl)
theorem dX3_save_6 : decode cX3_save 6 = .ok (.getfield 9, 3) := dk_180 0 9 (dk_at dksX3_save_0 6 rfl rfl)
theorem dX3_save_9 : decode cX3_save 9 = .ok (.iconst 0, 1) := dk_3 (dk_at dksX3_save_0 9 rfl rfl)
theorem dX3_save_10 : decode cX3_save 10 = .ok (.aload_n 0, 1) := dk_42 (dk_at dksX3_save_0 10 rfl rfl)
theorem dX3_save_11 : decode cX3_save 11 = .ok (.getfield 16, 3) := dk_180 0 16 (dk_at dksX3_save_0 11 rfl rfl)
theorem dX3_save_14 : decode cX3_save 14 = .ok (.iconst 0, 1) := dk_3 (dk_at dksX3_save_0 14 rfl rfl)
theorem dX3_save_15 : decode cX3_save 15 = .ok (.invokestatic 44, 3) := dk_184 0 44 (dk_at dksX3_save_0 15 rfl rfl)
theorem dX3_save_18 : decode cX3_save 18 = .ok (.aload_n 0, 1) := dk_42 (dk_at dksX3_save_0 18 rfl rfl)
theorem dX3_save_19 : decode cX3_save 19 = .ok (.iconst 1, 1) := dk_4 (dk_at dksX3_save_0 19 rfl rfl)
theorem dX3_save_20 : decode cX3_save 20 = .ok (.putfield 316, 3) := dk_181 1 60 (dk_at dksX3_save_0 20 rfl rfl)
theorem dX3_save_23 : decode cX3_save 23 = .ok (.aload_n 0, 1) := dk_42 (dk_at dksX3_save_0 23 rfl rfl)
theorem dX3_save_24 : decode cX3_save 24 = .ok (.invokevirtual 229, 3) := dk_182 0 229 (dk_at dksX3_save_1 0 rfl rfl)
theorem dX3_save_27 : decode cX3_save 27 = .ok (.ireturn, 1) := dk_172 (dk_at dksX3_save_1 3 rfl rfl)
abbrev cX3_restore : ByteArray := prog_16_method_106_code
def yX3_restore : MethodName := ⟨RX3, "restore", "()I"⟩
def dkwX3_restore_1 : List UInt8 := [180, 0, 16, 3, 42, 180, 0, 9, 3, 184, 0, 44, 42, 3, 181, 0, 48, 42, 182, 0, 229, 172]
abbrev dktX3_restore_1 : List UInt8 := dkwX3_restore_1 ++ []
def dkwX3_restore_0 : List UInt8 := [42, 42, 180, 1, 60, 154, 0, 7, 4, 167, 0, 4, 3, 4, 182, 0, 91, 153, 0, 5, 3, 172, 42]
abbrev dktX3_restore_0 : List UInt8 := dkwX3_restore_0 ++ dktX3_restore_1
theorem dksX3_restore_0 : cX3_restore.data.toList.drop 0 = dktX3_restore_0 := by decide +kernel
theorem dksX3_restore_1 : cX3_restore.data.toList.drop 23 = dktX3_restore_1 := dk_seg dksX3_restore_0 23 rfl rfl
theorem dX3_restore_0 : decode cX3_restore 0 = .ok (.aload_n 0, 1) := dk_42 (dk_at dksX3_restore_0 0 rfl rfl)
theorem dX3_restore_1 : decode cX3_restore 1 = .ok (.aload_n 0, 1) := dk_42 (dk_at dksX3_restore_0 1 rfl rfl)
theorem dX3_restore_2 : decode cX3_restore 2 = .ok (.getfield 316, 3) := dk_180 1 60 (dk_at dksX3_restore_0 2 rfl rfl)
theorem dX3_restore_5 : decode cX3_restore 5 = .ok (.ifCond .ne 7, 3) := dk_154 0 7 (dk_at dksX3_restore_0 5 rfl rfl)
theorem dX3_restore_8 : decode cX3_restore 8 = .ok (.iconst 1, 1) := dk_4 (dk_at dksX3_restore_0 8 rfl rfl)
theorem dX3_restore_9 : decode cX3_restore 9 = .ok (.goto 4, 3) := dk_167 0 4 (dk_at dksX3_restore_0 9 rfl rfl)
theorem dX3_restore_12 : decode cX3_restore 12 = .ok (.iconst 0, 1) := dk_3 (dk_at dksX3_restore_0 12 rfl rfl)
theorem dX3_restore_13 : decode cX3_restore 13 = .ok (.iconst 1, 1) := dk_4 (dk_at dksX3_restore_0 13 rfl rfl)
theorem dX3_restore_14 : decode cX3_restore 14 = .ok (.invokevirtual 91, 3) := dk_182 0 91 (dk_at dksX3_restore_0 14 rfl rfl)
theorem dX3_restore_17 : decode cX3_restore 17 = .ok (.ifCond .eq 5, 3) := dk_153 0 5 (dk_at dksX3_restore_0 17 rfl rfl)
theorem dX3_restore_20 : decode cX3_restore 20 = .ok (.iconst 0, 1) := dk_3 (dk_at dksX3_restore_0 20 rfl rfl)
theorem dX3_restore_21 : decode cX3_restore 21 = .ok (.ireturn, 1) := dk_172 (dk_at dksX3_restore_0 21 rfl rfl)
theorem dX3_restore_22 : decode cX3_restore 22 = .ok (.aload_n 0, 1) := dk_42 (dk_at dksX3_restore_0 22 rfl rfl)
theorem dX3_restore_23 : decode cX3_restore 23 = .ok (.getfield 16, 3) := dk_180 0 16 (dk_at dksX3_restore_1 0 rfl rfl)
theorem dX3_restore_26 : decode cX3_restore 26 = .ok (.iconst 0, 1) := dk_3 (dk_at dksX3_restore_1 3 rfl rfl)
theorem dX3_restore_27 : decode cX3_restore 27 = .ok (.aload_n 0, 1) := dk_42 (dk_at dksX3_restore_1 4 rfl rfl)
theorem dX3_restore_28 : decode cX3_restore 28 = .ok (.getfield 9, 3) := dk_180 0 9 (dk_at dksX3_restore_1 5 rfl rfl)
theorem dX3_restore_31 : decode cX3_restore 31 = .ok (.iconst 0, 1) := dk_3 (dk_at dksX3_restore_1 8 rfl rfl)
theorem dX3_restore_32 : decode cX3_restore 32 = .ok (.invokestatic 44, 3) := dk_184 0 44 (dk_at dksX3_restore_1 9 rfl rfl)
theorem dX3_restore_35 : decode cX3_restore 35 = .ok (.aload_n 0, 1) := dk_42 (dk_at dksX3_restore_1 12 rfl rfl)
theorem dX3_restore_36 : decode cX3_restore 36 = .ok (.iconst 0, 1) := dk_3 (dk_at dksX3_restore_1 13 rfl rfl)
theorem dX3_restore_37 : decode cX3_restore 37 = .ok (.putfield 48, 3) := dk_181 0 48 (dk_at dksX3_restore_1 14 rfl rfl)
theorem dX3_restore_40 : decode cX3_restore 40 = .ok (.aload_n 0, 1) := dk_42 (dk_at dksX3_restore_1 17 rfl rfl)
theorem dX3_restore_41 : decode cX3_restore 41 = .ok (.invokevirtual 229, 3) := dk_182 0 229 (dk_at dksX3_restore_1 18 rfl rfl)
theorem dX3_restore_44 : decode cX3_restore 44 = .ok (.ireturn, 1) := dk_172 (dk_at dksX3_restore_1 21 rfl rfl)
theorem q112 : (Jvm.Cond.initialized "BoxSpansModel") ∈ lw_all := lw_g (lw_at lw_m1 12 rfl) rfl
theorem q912 : (Jvm.Cond.selects "BoxSpansModel" ({ cls := "java/lang/Object", name := "getClass", desc := "()Ljava/lang/Class;" } : Jvm.MethodName) ({ cls := "java/lang/Object", name := "getClass", desc := "()Ljava/lang/Class;" } : Jvm.MethodName)) ∈ lw_all := lw_g (lw_at lw_m4 92 rfl) rfl
theorem q2074 : (Jvm.Cond.selects "BoxSpansModel" ({ cls := "java/lang/Object", name := "toString", desc := "()Ljava/lang/String;" } : Jvm.MethodName) ({ cls := "java/lang/Object", name := "toString", desc := "()Ljava/lang/String;" } : Jvm.MethodName)) ∈ lw_all := lw_g (lw_at lw_m9 54 rfl) rfl
theorem q2572 : (Jvm.Cond.instantiable "BoxSpansModel" (23 : Nat)) ∈ lw_all := lw_g (lw_at lw_m11 72 rfl) rfl
theorem q2574 : (Jvm.Cond.instanceMethod ({ cls := "BoxSpansModel", name := "<init>", desc := "()V" } : Jvm.MethodName)) ∈ lw_all := lw_g (lw_at lw_m11 74 rfl) rfl
theorem q2575 : (Jvm.Cond.code ({ cls := "BoxSpansModel", name := "<init>", desc := "()V" } : Jvm.MethodName) prog_16_method_1_code (1 : Nat) (Option.none : Option Jvm.ClassFile.FieldType)) ∈ lw_all := lw_g (lw_at lw_m11 75 rfl) rfl
theorem q2576 : (Jvm.Cond.methodLink "BoxSpansModel" (3 : Nat) ({ cls := "java/lang/Object", name := "<init>", desc := "()V" } : Jvm.MethodName)) ∈ lw_all := lw_g (lw_at lw_m11 76 rfl) rfl
theorem q2577 : (Jvm.Cond.fieldLink "BoxSpansModel" (9 : Nat) "BoxSpansModel" "s" "[I") ∈ lw_all := lw_g (lw_at lw_m11 77 rfl) rfl
theorem q2578 : (Jvm.Cond.fieldLink "BoxSpansModel" (13 : Nat) "BoxSpansModel" "was" "[I") ∈ lw_all := lw_g (lw_at lw_m11 78 rfl) rfl
theorem q2579 : (Jvm.Cond.fieldLink "BoxSpansModel" (16 : Nat) "BoxSpansModel" "saved" "[I") ∈ lw_all := lw_g (lw_at lw_m11 79 rfl) rfl
theorem q2580 : (Jvm.Cond.fieldLink "BoxSpansModel" (19 : Nat) "BoxSpansModel" "past" "[I") ∈ lw_all := lw_g (lw_at lw_m11 80 rfl) rfl
theorem q2581 : (Jvm.Cond.fieldLink "BoxSpansModel" (48 : Nat) "BoxSpansModel" "changes" "I") ∈ lw_all := lw_g (lw_at lw_m11 81 rfl) rfl
theorem q2582 : (Jvm.Cond.fieldLink "BoxSpansModel" (41 : Nat) "BoxSpansModel" "thrown" "I") ∈ lw_all := lw_g (lw_at lw_m11 82 rfl) rfl
theorem q2583 : (Jvm.Cond.fieldLink "BoxSpansModel" (54 : Nat) "BoxSpansModel" "reason" "I") ∈ lw_all := lw_g (lw_at lw_m11 83 rfl) rfl
theorem q2584 : (Jvm.Cond.fieldLink "BoxSpansModel" (57 : Nat) "BoxSpansModel" "detail" "I") ∈ lw_all := lw_g (lw_at lw_m11 84 rfl) rfl
theorem q2585 : (Jvm.Cond.fieldLink "BoxSpansModel" (60 : Nat) "BoxSpansModel" "cause" "I") ∈ lw_all := lw_g (lw_at lw_m11 85 rfl) rfl
theorem q2586 : (Jvm.Cond.fieldLink "BoxSpansModel" (300 : Nat) "BoxSpansModel" "causeDetail" "I") ∈ lw_all := lw_g (lw_at lw_m11 86 rfl) rfl
theorem q2587 : (Jvm.Cond.fieldLink "BoxSpansModel" (22 : Nat) "BoxSpansModel" "errorAt" "I") ∈ lw_all := lw_g (lw_at lw_m11 87 rfl) rfl
theorem q2588 : (Jvm.Cond.fieldLink "BoxSpansModel" (316 : Nat) "BoxSpansModel" "isSaved" "Z") ∈ lw_all := lw_g (lw_at lw_m11 88 rfl) rfl
theorem q2589 : (Jvm.Cond.fieldLink "BoxSpansModel" (26 : Nat) "BoxSpansModel" "freeFrom" "[I") ∈ lw_all := lw_g (lw_at lw_m11 89 rfl) rfl
theorem q2590 : (Jvm.Cond.fieldLink "BoxSpansModel" (29 : Nat) "BoxSpansModel" "told" "[I") ∈ lw_all := lw_g (lw_at lw_m11 90 rfl) rfl
theorem q2591 : (Jvm.Cond.fieldLink "BoxSpansModel" (187 : Nat) "BoxSpansModel" "longest" "I") ∈ lw_all := lw_g (lw_at lw_m11 91 rfl) rfl
theorem q2592 : (Jvm.Cond.fieldLink "BoxSpansModel" (32 : Nat) "BoxSpansModel" "line" "[I") ∈ lw_all := lw_g (lw_at lw_m11 92 rfl) rfl
theorem q2593 : (Jvm.Cond.fieldLink "BoxSpansModel" (216 : Nat) "BoxSpansModel" "lined" "I") ∈ lw_all := lw_g (lw_at lw_m11 93 rfl) rfl
theorem q2594 : (Jvm.Cond.fieldLink "BoxSpansModel" (35 : Nat) "BoxSpansModel" "tape" "[I") ∈ lw_all := lw_g (lw_at lw_m11 94 rfl) rfl
theorem q2595 : (Jvm.Cond.fieldLink "BoxSpansModel" (38 : Nat) "BoxSpansModel" "commands" "[I") ∈ lw_all := lw_g (lw_at lw_m11 95 rfl) rfl
theorem q2596 : (Jvm.Cond.fieldLink "BoxSpansModel" (238 : Nat) "BoxSpansModel" "taped" "I") ∈ lw_all := lw_g (lw_at lw_m11 96 rfl) rfl
theorem q2597 : (Jvm.Cond.fieldLink "BoxSpansModel" (242 : Nat) "BoxSpansModel" "here" "I") ∈ lw_all := lw_g (lw_at lw_m11 97 rfl) rfl
theorem q2598 : (Jvm.Cond.fieldLink "BoxSpansModel" (288 : Nat) "BoxSpansModel" "commandMany" "I") ∈ lw_all := lw_g (lw_at lw_m11 98 rfl) rfl
theorem q2599 : (Jvm.Cond.fieldLink "BoxSpansModel" (278 : Nat) "BoxSpansModel" "word" "I") ∈ lw_all := lw_g (lw_at lw_m11 99 rfl) rfl
theorem q2600 : (Jvm.Cond.laysFinal "BoxSpansModel" "BoxSpansModel" "s" "[I") ∈ lw_all := lw_g (lw_at lw_m11 100 rfl) rfl
theorem q2601 : (Jvm.Cond.soleField "BoxSpansModel" "s") ∈ lw_all := lw_g (lw_at lw_m11 101 rfl) rfl
theorem q2602 : (Jvm.Cond.laysFinal "BoxSpansModel" "BoxSpansModel" "was" "[I") ∈ lw_all := lw_g (lw_at lw_m11 102 rfl) rfl
theorem q2603 : (Jvm.Cond.soleField "BoxSpansModel" "was") ∈ lw_all := lw_g (lw_at lw_m11 103 rfl) rfl
theorem q2604 : (Jvm.Cond.laysFinal "BoxSpansModel" "BoxSpansModel" "saved" "[I") ∈ lw_all := lw_g (lw_at lw_m11 104 rfl) rfl
theorem q2605 : (Jvm.Cond.soleField "BoxSpansModel" "saved") ∈ lw_all := lw_g (lw_at lw_m11 105 rfl) rfl
theorem q2606 : (Jvm.Cond.laysFinal "BoxSpansModel" "BoxSpansModel" "past" "[I") ∈ lw_all := lw_g (lw_at lw_m11 106 rfl) rfl
theorem q2607 : (Jvm.Cond.soleField "BoxSpansModel" "past") ∈ lw_all := lw_g (lw_at lw_m11 107 rfl) rfl
theorem q2608 : (Jvm.Cond.lays "BoxSpansModel" "BoxSpansModel" "changes" "I") ∈ lw_all := lw_g (lw_at lw_m11 108 rfl) rfl
theorem q2609 : (Jvm.Cond.soleField "BoxSpansModel" "changes") ∈ lw_all := lw_g (lw_at lw_m11 109 rfl) rfl
theorem q2610 : (Jvm.Cond.lays "BoxSpansModel" "BoxSpansModel" "thrown" "I") ∈ lw_all := lw_g (lw_at lw_m11 110 rfl) rfl
theorem q2611 : (Jvm.Cond.soleField "BoxSpansModel" "thrown") ∈ lw_all := lw_g (lw_at lw_m11 111 rfl) rfl
theorem q2612 : (Jvm.Cond.lays "BoxSpansModel" "BoxSpansModel" "reason" "I") ∈ lw_all := lw_g (lw_at lw_m11 112 rfl) rfl
theorem q2613 : (Jvm.Cond.soleField "BoxSpansModel" "reason") ∈ lw_all := lw_g (lw_at lw_m11 113 rfl) rfl
theorem q2614 : (Jvm.Cond.lays "BoxSpansModel" "BoxSpansModel" "detail" "I") ∈ lw_all := lw_g (lw_at lw_m11 114 rfl) rfl
theorem q2615 : (Jvm.Cond.soleField "BoxSpansModel" "detail") ∈ lw_all := lw_g (lw_at lw_m11 115 rfl) rfl
theorem q2616 : (Jvm.Cond.lays "BoxSpansModel" "BoxSpansModel" "cause" "I") ∈ lw_all := lw_g (lw_at lw_m11 116 rfl) rfl
theorem q2617 : (Jvm.Cond.soleField "BoxSpansModel" "cause") ∈ lw_all := lw_g (lw_at lw_m11 117 rfl) rfl
theorem q2618 : (Jvm.Cond.lays "BoxSpansModel" "BoxSpansModel" "causeDetail" "I") ∈ lw_all := lw_g (lw_at lw_m11 118 rfl) rfl
theorem q2619 : (Jvm.Cond.soleField "BoxSpansModel" "causeDetail") ∈ lw_all := lw_g (lw_at lw_m11 119 rfl) rfl
theorem q2620 : (Jvm.Cond.lays "BoxSpansModel" "BoxSpansModel" "errorAt" "I") ∈ lw_all := lw_g (lw_at lw_m11 120 rfl) rfl
theorem q2621 : (Jvm.Cond.soleField "BoxSpansModel" "errorAt") ∈ lw_all := lw_g (lw_at lw_m11 121 rfl) rfl
theorem q2622 : (Jvm.Cond.lays "BoxSpansModel" "BoxSpansModel" "isSaved" "Z") ∈ lw_all := lw_g (lw_at lw_m11 122 rfl) rfl
theorem q2623 : (Jvm.Cond.soleField "BoxSpansModel" "isSaved") ∈ lw_all := lw_g (lw_at lw_m11 123 rfl) rfl
theorem q2624 : (Jvm.Cond.laysFinal "BoxSpansModel" "BoxSpansModel" "freeFrom" "[I") ∈ lw_all := lw_g (lw_at lw_m11 124 rfl) rfl
theorem q2625 : (Jvm.Cond.soleField "BoxSpansModel" "freeFrom") ∈ lw_all := lw_g (lw_at lw_m11 125 rfl) rfl
theorem q2626 : (Jvm.Cond.laysFinal "BoxSpansModel" "BoxSpansModel" "told" "[I") ∈ lw_all := lw_g (lw_at lw_m11 126 rfl) rfl
theorem q2627 : (Jvm.Cond.soleField "BoxSpansModel" "told") ∈ lw_all := lw_g (lw_at lw_m11 127 rfl) rfl
theorem q2628 : (Jvm.Cond.lays "BoxSpansModel" "BoxSpansModel" "longest" "I") ∈ lw_all := lw_g (lw_at lw_m11 128 rfl) rfl
theorem q2629 : (Jvm.Cond.soleField "BoxSpansModel" "longest") ∈ lw_all := lw_g (lw_at lw_m11 129 rfl) rfl
theorem q2630 : (Jvm.Cond.laysFinal "BoxSpansModel" "BoxSpansModel" "line" "[I") ∈ lw_all := lw_g (lw_at lw_m11 130 rfl) rfl
theorem q2631 : (Jvm.Cond.soleField "BoxSpansModel" "line") ∈ lw_all := lw_g (lw_at lw_m11 131 rfl) rfl
theorem q2632 : (Jvm.Cond.lays "BoxSpansModel" "BoxSpansModel" "lined" "I") ∈ lw_all := lw_g (lw_at lw_m11 132 rfl) rfl
theorem q2633 : (Jvm.Cond.soleField "BoxSpansModel" "lined") ∈ lw_all := lw_g (lw_at lw_m11 133 rfl) rfl
theorem q2634 : (Jvm.Cond.laysFinal "BoxSpansModel" "BoxSpansModel" "tape" "[I") ∈ lw_all := lw_g (lw_at lw_m11 134 rfl) rfl
theorem q2635 : (Jvm.Cond.soleField "BoxSpansModel" "tape") ∈ lw_all := lw_g (lw_at lw_m11 135 rfl) rfl
theorem q2636 : (Jvm.Cond.laysFinal "BoxSpansModel" "BoxSpansModel" "commands" "[I") ∈ lw_all := lw_g (lw_at lw_m11 136 rfl) rfl
theorem q2637 : (Jvm.Cond.soleField "BoxSpansModel" "commands") ∈ lw_all := lw_g (lw_at lw_m11 137 rfl) rfl
theorem q2638 : (Jvm.Cond.lays "BoxSpansModel" "BoxSpansModel" "taped" "I") ∈ lw_all := lw_g (lw_at lw_m11 138 rfl) rfl
theorem q2639 : (Jvm.Cond.soleField "BoxSpansModel" "taped") ∈ lw_all := lw_g (lw_at lw_m11 139 rfl) rfl
theorem q2640 : (Jvm.Cond.lays "BoxSpansModel" "BoxSpansModel" "here" "I") ∈ lw_all := lw_g (lw_at lw_m11 140 rfl) rfl
theorem q2641 : (Jvm.Cond.soleField "BoxSpansModel" "here") ∈ lw_all := lw_g (lw_at lw_m11 141 rfl) rfl
theorem q2642 : (Jvm.Cond.lays "BoxSpansModel" "BoxSpansModel" "commandMany" "I") ∈ lw_all := lw_g (lw_at lw_m11 142 rfl) rfl
theorem q2643 : (Jvm.Cond.soleField "BoxSpansModel" "commandMany") ∈ lw_all := lw_g (lw_at lw_m11 143 rfl) rfl
theorem q2644 : (Jvm.Cond.lays "BoxSpansModel" "BoxSpansModel" "word" "I") ∈ lw_all := lw_g (lw_at lw_m11 144 rfl) rfl
theorem q2645 : (Jvm.Cond.soleField "BoxSpansModel" "word") ∈ lw_all := lw_g (lw_at lw_m11 145 rfl) rfl
theorem q2646 : (Jvm.Cond.superclass "BoxSpansModel" "java/lang/Object") ∈ lw_all := lw_g (lw_at lw_m11 146 rfl) rfl
theorem q2648 : (Jvm.Cond.instanceMethod ({ cls := "BoxSpansModel", name := "thrown", desc := "()I" } : Jvm.MethodName)) ∈ lw_all := lw_g (lw_at lw_m11 148 rfl) rfl
theorem q2649 : (Jvm.Cond.selects "BoxSpansModel" ({ cls := "BoxSpansModel", name := "thrown", desc := "()I" } : Jvm.MethodName) ({ cls := "BoxSpansModel", name := "thrown", desc := "()I" } : Jvm.MethodName)) ∈ lw_all := lw_g (lw_at lw_m11 149 rfl) rfl
theorem q2650 : (Jvm.Cond.code ({ cls := "BoxSpansModel", name := "thrown", desc := "()I" } : Jvm.MethodName) prog_16_method_2_code (1 : Nat) (Option.some Jvm.ClassFile.FieldType.int)) ∈ lw_all := lw_g (lw_at lw_m11 150 rfl) rfl
theorem q2652 : (Jvm.Cond.instanceMethod ({ cls := "BoxSpansModel", name := "box", desc := "(I)I" } : Jvm.MethodName)) ∈ lw_all := lw_g (lw_at lw_m11 152 rfl) rfl
theorem q2653 : (Jvm.Cond.selects "BoxSpansModel" ({ cls := "BoxSpansModel", name := "box", desc := "(I)I" } : Jvm.MethodName) ({ cls := "BoxSpansModel", name := "box", desc := "(I)I" } : Jvm.MethodName)) ∈ lw_all := lw_g (lw_at lw_m11 153 rfl) rfl
theorem q2654 : (Jvm.Cond.code ({ cls := "BoxSpansModel", name := "box", desc := "(I)I" } : Jvm.MethodName) prog_16_method_24_code (2 : Nat) (Option.some Jvm.ClassFile.FieldType.int)) ∈ lw_all := lw_g (lw_at lw_m11 154 rfl) rfl
theorem q2655 : (Jvm.Cond.methodLink "BoxSpansModel" (88 : Nat) ({ cls := "BoxSpansModel", name := "keeps", desc := "()V" } : Jvm.MethodName)) ∈ lw_all := lw_g (lw_at lw_m11 155 rfl) rfl
theorem q2656 : (Jvm.Cond.privateMethod ({ cls := "BoxSpansModel", name := "keeps", desc := "()V" } : Jvm.MethodName)) ∈ lw_tbl := lw_at lw_m11 156 rfl
theorem q2657 : (Jvm.Cond.instanceMethod ({ cls := "BoxSpansModel", name := "keeps", desc := "()V" } : Jvm.MethodName)) ∈ lw_all := lw_g (lw_at lw_m11 157 rfl) rfl
theorem q2658 : (Jvm.Cond.code ({ cls := "BoxSpansModel", name := "keeps", desc := "()V" } : Jvm.MethodName) prog_16_method_7_code (1 : Nat) (Option.none : Option Jvm.ClassFile.FieldType)) ∈ lw_all := lw_g (lw_at lw_m11 158 rfl) rfl
theorem q2659 : (Jvm.Cond.methodLink "BoxSpansModel" (44 : Nat) ({ cls := "BoxSpansModel", name := "copies", desc := "([II[II)V" } : Jvm.MethodName)) ∈ lw_all := lw_g (lw_at lw_m11 159 rfl) rfl
theorem q2660 : (Jvm.Cond.static ({ cls := "BoxSpansModel", name := "copies", desc := "([II[II)V" } : Jvm.MethodName)) ∈ lw_all := lw_g (lw_at lw_m11 160 rfl) rfl
theorem q2661 : (Jvm.Cond.code ({ cls := "BoxSpansModel", name := "copies", desc := "([II[II)V" } : Jvm.MethodName) prog_16_method_6_code (5 : Nat) (Option.none : Option Jvm.ClassFile.FieldType)) ∈ lw_all := lw_g (lw_at lw_m11 161 rfl) rfl
theorem q2662 : (Jvm.Cond.methodLink "BoxSpansModel" (70 : Nat) ({ cls := "BoxSpansModel", name := "isIn", desc := "(III)Z" } : Jvm.MethodName)) ∈ lw_all := lw_g (lw_at lw_m11 162 rfl) rfl
theorem q2663 : (Jvm.Cond.static ({ cls := "BoxSpansModel", name := "isIn", desc := "(III)Z" } : Jvm.MethodName)) ∈ lw_all := lw_g (lw_at lw_m11 163 rfl) rfl
theorem q2664 : (Jvm.Cond.code ({ cls := "BoxSpansModel", name := "isIn", desc := "(III)Z" } : Jvm.MethodName) prog_16_method_3_code (3 : Nat) (Option.some Jvm.ClassFile.FieldType.boolean)) ∈ lw_all := lw_g (lw_at lw_m11 164 rfl) rfl
theorem q2665 : (Jvm.Cond.methodLink "BoxSpansModel" (91 : Nat) ({ cls := "BoxSpansModel", name := "isThrown", desc := "(ZI)Z" } : Jvm.MethodName)) ∈ lw_all := lw_g (lw_at lw_m11 165 rfl) rfl
theorem q2666 : (Jvm.Cond.privateMethod ({ cls := "BoxSpansModel", name := "isThrown", desc := "(ZI)Z" } : Jvm.MethodName)) ∈ lw_tbl := lw_at lw_m11 166 rfl
theorem q2667 : (Jvm.Cond.instanceMethod ({ cls := "BoxSpansModel", name := "isThrown", desc := "(ZI)Z" } : Jvm.MethodName)) ∈ lw_all := lw_g (lw_at lw_m11 167 rfl) rfl
theorem q2668 : (Jvm.Cond.code ({ cls := "BoxSpansModel", name := "isThrown", desc := "(ZI)Z" } : Jvm.MethodName) prog_16_method_10_code (3 : Nat) (Option.some Jvm.ClassFile.FieldType.boolean)) ∈ lw_all := lw_g (lw_at lw_m11 168 rfl) rfl
theorem q2669 : (Jvm.Cond.methodLink "BoxSpansModel" (95 : Nat) ({ cls := "BoxSpansModel", name := "isRefused", desc := "(ZII)Z" } : Jvm.MethodName)) ∈ lw_all := lw_g (lw_at lw_m11 169 rfl) rfl
theorem q2670 : (Jvm.Cond.privateMethod ({ cls := "BoxSpansModel", name := "isRefused", desc := "(ZII)Z" } : Jvm.MethodName)) ∈ lw_tbl := lw_at lw_m11 170 rfl
theorem q2671 : (Jvm.Cond.instanceMethod ({ cls := "BoxSpansModel", name := "isRefused", desc := "(ZII)Z" } : Jvm.MethodName)) ∈ lw_all := lw_g (lw_at lw_m11 171 rfl) rfl
theorem q2672 : (Jvm.Cond.code ({ cls := "BoxSpansModel", name := "isRefused", desc := "(ZII)Z" } : Jvm.MethodName) prog_16_method_11_code (4 : Nat) (Option.some Jvm.ClassFile.FieldType.boolean)) ∈ lw_all := lw_g (lw_at lw_m11 172 rfl) rfl
theorem q2673 : (Jvm.Cond.methodLink "BoxSpansModel" (99 : Nat) ({ cls := "BoxSpansModel", name := "ends", desc := "(II)I" } : Jvm.MethodName)) ∈ lw_all := lw_g (lw_at lw_m11 173 rfl) rfl
theorem q2674 : (Jvm.Cond.privateMethod ({ cls := "BoxSpansModel", name := "ends", desc := "(II)I" } : Jvm.MethodName)) ∈ lw_tbl := lw_at lw_m11 174 rfl
theorem q2675 : (Jvm.Cond.instanceMethod ({ cls := "BoxSpansModel", name := "ends", desc := "(II)I" } : Jvm.MethodName)) ∈ lw_all := lw_g (lw_at lw_m11 175 rfl) rfl
theorem q2676 : (Jvm.Cond.code ({ cls := "BoxSpansModel", name := "ends", desc := "(II)I" } : Jvm.MethodName) prog_16_method_9_code (3 : Nat) (Option.some Jvm.ClassFile.FieldType.int)) ∈ lw_all := lw_g (lw_at lw_m11 176 rfl) rfl
theorem q2677 : (Jvm.Cond.methodLink "BoxSpansModel" (51 : Nat) ({ cls := "BoxSpansModel", name := "changed", desc := "()V" } : Jvm.MethodName)) ∈ lw_all := lw_g (lw_at lw_m11 177 rfl) rfl
theorem q2678 : (Jvm.Cond.privateMethod ({ cls := "BoxSpansModel", name := "changed", desc := "()V" } : Jvm.MethodName)) ∈ lw_tbl := lw_at lw_m11 178 rfl
theorem q2679 : (Jvm.Cond.instanceMethod ({ cls := "BoxSpansModel", name := "changed", desc := "()V" } : Jvm.MethodName)) ∈ lw_all := lw_g (lw_at lw_m11 179 rfl) rfl
theorem q2680 : (Jvm.Cond.code ({ cls := "BoxSpansModel", name := "changed", desc := "()V" } : Jvm.MethodName) prog_16_method_8_code (2 : Nat) (Option.none : Option Jvm.ClassFile.FieldType)) ∈ lw_all := lw_g (lw_at lw_m11 180 rfl) rfl
theorem q2682 : (Jvm.Cond.instanceMethod ({ cls := "BoxSpansModel", name := "let", desc := "(IIII)I" } : Jvm.MethodName)) ∈ lw_all := lw_g (lw_at lw_m11 182 rfl) rfl
theorem q2683 : (Jvm.Cond.selects "BoxSpansModel" ({ cls := "BoxSpansModel", name := "let", desc := "(IIII)I" } : Jvm.MethodName) ({ cls := "BoxSpansModel", name := "let", desc := "(IIII)I" } : Jvm.MethodName)) ∈ lw_all := lw_g (lw_at lw_m11 183 rfl) rfl
theorem q2684 : (Jvm.Cond.code ({ cls := "BoxSpansModel", name := "let", desc := "(IIII)I" } : Jvm.MethodName) prog_16_method_28_code (5 : Nat) (Option.some Jvm.ClassFile.FieldType.int)) ∈ lw_all := lw_g (lw_at lw_m11 184 rfl) rfl
theorem q2685 : (Jvm.Cond.methodLink "BoxSpansModel" (109 : Nat) ({ cls := "BoxSpansModel", name := "isBox", desc := "(I)Z" } : Jvm.MethodName)) ∈ lw_all := lw_g (lw_at lw_m11 185 rfl) rfl
theorem q2686 : (Jvm.Cond.privateMethod ({ cls := "BoxSpansModel", name := "isBox", desc := "(I)Z" } : Jvm.MethodName)) ∈ lw_tbl := lw_at lw_m11 186 rfl
theorem q2687 : (Jvm.Cond.instanceMethod ({ cls := "BoxSpansModel", name := "isBox", desc := "(I)Z" } : Jvm.MethodName)) ∈ lw_all := lw_g (lw_at lw_m11 187 rfl) rfl
theorem q2688 : (Jvm.Cond.code ({ cls := "BoxSpansModel", name := "isBox", desc := "(I)Z" } : Jvm.MethodName) prog_16_method_16_code (2 : Nat) (Option.some Jvm.ClassFile.FieldType.boolean)) ∈ lw_all := lw_g (lw_at lw_m11 188 rfl) rfl
theorem q2689 : (Jvm.Cond.methodLink "BoxSpansModel" (112 : Nat) ({ cls := "BoxSpansModel", name := "isFor", desc := "(III)Z" } : Jvm.MethodName)) ∈ lw_all := lw_g (lw_at lw_m11 189 rfl) rfl
theorem q2690 : (Jvm.Cond.static ({ cls := "BoxSpansModel", name := "isFor", desc := "(III)Z" } : Jvm.MethodName)) ∈ lw_all := lw_g (lw_at lw_m11 190 rfl) rfl
theorem q2691 : (Jvm.Cond.code ({ cls := "BoxSpansModel", name := "isFor", desc := "(III)Z" } : Jvm.MethodName) prog_16_method_20_code (3 : Nat) (Option.some Jvm.ClassFile.FieldType.boolean)) ∈ lw_all := lw_g (lw_at lw_m11 191 rfl) rfl
theorem q2692 : (Jvm.Cond.methodLink "BoxSpansModel" (74 : Nat) ({ cls := "BoxSpansModel", name := "isMinute", desc := "(I)Z" } : Jvm.MethodName)) ∈ lw_all := lw_g (lw_at lw_m11 192 rfl) rfl
theorem q2693 : (Jvm.Cond.static ({ cls := "BoxSpansModel", name := "isMinute", desc := "(I)Z" } : Jvm.MethodName)) ∈ lw_all := lw_g (lw_at lw_m11 193 rfl) rfl
theorem q2694 : (Jvm.Cond.code ({ cls := "BoxSpansModel", name := "isMinute", desc := "(I)Z" } : Jvm.MethodName) prog_16_method_19_code (1 : Nat) (Option.some Jvm.ClassFile.FieldType.boolean)) ∈ lw_all := lw_g (lw_at lw_m11 194 rfl) rfl
theorem q2695 : (Jvm.Cond.methodLink "BoxSpansModel" (115 : Nat) ({ cls := "BoxSpansModel", name := "lets", desc := "(IIII)I" } : Jvm.MethodName)) ∈ lw_all := lw_g (lw_at lw_m11 195 rfl) rfl
theorem q2696 : (Jvm.Cond.privateMethod ({ cls := "BoxSpansModel", name := "lets", desc := "(IIII)I" } : Jvm.MethodName)) ∈ lw_tbl := lw_at lw_m11 196 rfl
theorem q2697 : (Jvm.Cond.instanceMethod ({ cls := "BoxSpansModel", name := "lets", desc := "(IIII)I" } : Jvm.MethodName)) ∈ lw_all := lw_g (lw_at lw_m11 197 rfl) rfl
theorem q2698 : (Jvm.Cond.code ({ cls := "BoxSpansModel", name := "lets", desc := "(IIII)I" } : Jvm.MethodName) prog_16_method_27_code (7 : Nat) (Option.some Jvm.ClassFile.FieldType.int)) ∈ lw_all := lw_g (lw_at lw_m11 198 rfl) rfl
theorem q2699 : (Jvm.Cond.methodLink "BoxSpansModel" (102 : Nat) ({ cls := "BoxSpansModel", name := "inTheWay", desc := "(IIII)I" } : Jvm.MethodName)) ∈ lw_all := lw_g (lw_at lw_m11 199 rfl) rfl
theorem q2700 : (Jvm.Cond.privateMethod ({ cls := "BoxSpansModel", name := "inTheWay", desc := "(IIII)I" } : Jvm.MethodName)) ∈ lw_tbl := lw_at lw_m11 200 rfl
theorem q2701 : (Jvm.Cond.instanceMethod ({ cls := "BoxSpansModel", name := "inTheWay", desc := "(IIII)I" } : Jvm.MethodName)) ∈ lw_all := lw_g (lw_at lw_m11 201 rfl) rfl
theorem q2702 : (Jvm.Cond.code ({ cls := "BoxSpansModel", name := "inTheWay", desc := "(IIII)I" } : Jvm.MethodName) prog_16_method_25_code (8 : Nat) (Option.some Jvm.ClassFile.FieldType.int)) ∈ lw_all := lw_g (lw_at lw_m11 202 rfl) rfl
theorem q2703 : (Jvm.Cond.methodLink "BoxSpansModel" (81 : Nat) ({ cls := "BoxSpansModel", name := "isOver", desc := "(I)Z" } : Jvm.MethodName)) ∈ lw_all := lw_g (lw_at lw_m11 203 rfl) rfl
theorem q2704 : (Jvm.Cond.privateMethod ({ cls := "BoxSpansModel", name := "isOver", desc := "(I)Z" } : Jvm.MethodName)) ∈ lw_tbl := lw_at lw_m11 204 rfl
theorem q2705 : (Jvm.Cond.instanceMethod ({ cls := "BoxSpansModel", name := "isOver", desc := "(I)Z" } : Jvm.MethodName)) ∈ lw_all := lw_g (lw_at lw_m11 205 rfl) rfl
theorem q2706 : (Jvm.Cond.code ({ cls := "BoxSpansModel", name := "isOver", desc := "(I)Z" } : Jvm.MethodName) prog_16_method_21_code (2 : Nat) (Option.some Jvm.ClassFile.FieldType.boolean)) ∈ lw_all := lw_g (lw_at lw_m11 206 rfl) rfl
theorem q2707 : (Jvm.Cond.methodLink "BoxSpansModel" (78 : Nat) ({ cls := "BoxSpansModel", name := "ofLetting", desc := "(II)I" } : Jvm.MethodName)) ∈ lw_all := lw_g (lw_at lw_m11 207 rfl) rfl
theorem q2708 : (Jvm.Cond.privateMethod ({ cls := "BoxSpansModel", name := "ofLetting", desc := "(II)I" } : Jvm.MethodName)) ∈ lw_tbl := lw_at lw_m11 208 rfl
theorem q2709 : (Jvm.Cond.instanceMethod ({ cls := "BoxSpansModel", name := "ofLetting", desc := "(II)I" } : Jvm.MethodName)) ∈ lw_all := lw_g (lw_at lw_m11 209 rfl) rfl
theorem q2710 : (Jvm.Cond.code ({ cls := "BoxSpansModel", name := "ofLetting", desc := "(II)I" } : Jvm.MethodName) prog_16_method_13_code (3 : Nat) (Option.some Jvm.ClassFile.FieldType.int)) ∈ lw_all := lw_g (lw_at lw_m11 210 rfl) rfl
theorem q2711 : (Jvm.Cond.methodLink "BoxSpansModel" (63 : Nat) ({ cls := "BoxSpansModel", name := "lettingAt", desc := "(II)I" } : Jvm.MethodName)) ∈ lw_all := lw_g (lw_at lw_m11 211 rfl) rfl
theorem q2712 : (Jvm.Cond.static ({ cls := "BoxSpansModel", name := "lettingAt", desc := "(II)I" } : Jvm.MethodName)) ∈ lw_all := lw_g (lw_at lw_m11 212 rfl) rfl
theorem q2713 : (Jvm.Cond.code ({ cls := "BoxSpansModel", name := "lettingAt", desc := "(II)I" } : Jvm.MethodName) prog_16_method_12_code (2 : Nat) (Option.some Jvm.ClassFile.FieldType.int)) ∈ lw_all := lw_g (lw_at lw_m11 213 rfl) rfl
theorem q2714 : (Jvm.Cond.methodLink "BoxSpansModel" (106 : Nat) ({ cls := "BoxSpansModel", name := "makes", desc := "(IIII)I" } : Jvm.MethodName)) ∈ lw_all := lw_g (lw_at lw_m11 214 rfl) rfl
theorem q2715 : (Jvm.Cond.privateMethod ({ cls := "BoxSpansModel", name := "makes", desc := "(IIII)I" } : Jvm.MethodName)) ∈ lw_tbl := lw_at lw_m11 215 rfl
theorem q2716 : (Jvm.Cond.instanceMethod ({ cls := "BoxSpansModel", name := "makes", desc := "(IIII)I" } : Jvm.MethodName)) ∈ lw_all := lw_g (lw_at lw_m11 216 rfl) rfl
theorem q2717 : (Jvm.Cond.code ({ cls := "BoxSpansModel", name := "makes", desc := "(IIII)I" } : Jvm.MethodName) prog_16_method_26_code (6 : Nat) (Option.some Jvm.ClassFile.FieldType.int)) ∈ lw_all := lw_g (lw_at lw_m11 217 rfl) rfl
theorem q2719 : (Jvm.Cond.instanceMethod ({ cls := "BoxSpansModel", name := "cancel", desc := "(I)I" } : Jvm.MethodName)) ∈ lw_all := lw_g (lw_at lw_m11 219 rfl) rfl
theorem q2720 : (Jvm.Cond.selects "BoxSpansModel" ({ cls := "BoxSpansModel", name := "cancel", desc := "(I)I" } : Jvm.MethodName) ({ cls := "BoxSpansModel", name := "cancel", desc := "(I)I" } : Jvm.MethodName)) ∈ lw_all := lw_g (lw_at lw_m11 220 rfl) rfl
theorem q2721 : (Jvm.Cond.code ({ cls := "BoxSpansModel", name := "cancel", desc := "(I)I" } : Jvm.MethodName) prog_16_method_31_code (2 : Nat) (Option.some Jvm.ClassFile.FieldType.int)) ∈ lw_all := lw_g (lw_at lw_m11 221 rfl) rfl
theorem q2722 : (Jvm.Cond.methodLink "BoxSpansModel" (124 : Nat) ({ cls := "BoxSpansModel", name := "isLetting", desc := "(I)Z" } : Jvm.MethodName)) ∈ lw_all := lw_g (lw_at lw_m11 222 rfl) rfl
theorem q2723 : (Jvm.Cond.privateMethod ({ cls := "BoxSpansModel", name := "isLetting", desc := "(I)Z" } : Jvm.MethodName)) ∈ lw_tbl := lw_at lw_m11 223 rfl
theorem q2724 : (Jvm.Cond.instanceMethod ({ cls := "BoxSpansModel", name := "isLetting", desc := "(I)Z" } : Jvm.MethodName)) ∈ lw_all := lw_g (lw_at lw_m11 224 rfl) rfl
theorem q2725 : (Jvm.Cond.code ({ cls := "BoxSpansModel", name := "isLetting", desc := "(I)Z" } : Jvm.MethodName) prog_16_method_17_code (2 : Nat) (Option.some Jvm.ClassFile.FieldType.boolean)) ∈ lw_all := lw_g (lw_at lw_m11 225 rfl) rfl
theorem q2726 : (Jvm.Cond.methodLink "BoxSpansModel" (127 : Nat) ({ cls := "BoxSpansModel", name := "cancels", desc := "(I)I" } : Jvm.MethodName)) ∈ lw_all := lw_g (lw_at lw_m11 226 rfl) rfl
theorem q2727 : (Jvm.Cond.privateMethod ({ cls := "BoxSpansModel", name := "cancels", desc := "(I)I" } : Jvm.MethodName)) ∈ lw_tbl := lw_at lw_m11 227 rfl
theorem q2728 : (Jvm.Cond.instanceMethod ({ cls := "BoxSpansModel", name := "cancels", desc := "(I)I" } : Jvm.MethodName)) ∈ lw_all := lw_g (lw_at lw_m11 228 rfl) rfl
theorem q2729 : (Jvm.Cond.code ({ cls := "BoxSpansModel", name := "cancels", desc := "(I)I" } : Jvm.MethodName) prog_16_method_30_code (3 : Nat) (Option.some Jvm.ClassFile.FieldType.int)) ∈ lw_all := lw_g (lw_at lw_m11 229 rfl) rfl
theorem q2730 : (Jvm.Cond.methodLink "BoxSpansModel" (118 : Nat) ({ cls := "BoxSpansModel", name := "isRefusedAsOver", desc := "(I)Z" } : Jvm.MethodName)) ∈ lw_all := lw_g (lw_at lw_m11 230 rfl) rfl
theorem q2731 : (Jvm.Cond.privateMethod ({ cls := "BoxSpansModel", name := "isRefusedAsOver", desc := "(I)Z" } : Jvm.MethodName)) ∈ lw_tbl := lw_at lw_m11 231 rfl
theorem q2732 : (Jvm.Cond.instanceMethod ({ cls := "BoxSpansModel", name := "isRefusedAsOver", desc := "(I)Z" } : Jvm.MethodName)) ∈ lw_all := lw_g (lw_at lw_m11 232 rfl) rfl
theorem q2733 : (Jvm.Cond.code ({ cls := "BoxSpansModel", name := "isRefusedAsOver", desc := "(I)Z" } : Jvm.MethodName) prog_16_method_29_code (2 : Nat) (Option.some Jvm.ClassFile.FieldType.boolean)) ∈ lw_all := lw_g (lw_at lw_m11 233 rfl) rfl
theorem q2734 : (Jvm.Cond.methodLink "BoxSpansModel" (121 : Nat) ({ cls := "BoxSpansModel", name := "coinsOf", desc := "(I)I" } : Jvm.MethodName)) ∈ lw_all := lw_g (lw_at lw_m11 234 rfl) rfl
theorem q2735 : (Jvm.Cond.privateMethod ({ cls := "BoxSpansModel", name := "coinsOf", desc := "(I)I" } : Jvm.MethodName)) ∈ lw_tbl := lw_at lw_m11 235 rfl
theorem q2736 : (Jvm.Cond.instanceMethod ({ cls := "BoxSpansModel", name := "coinsOf", desc := "(I)I" } : Jvm.MethodName)) ∈ lw_all := lw_g (lw_at lw_m11 236 rfl) rfl
theorem q2737 : (Jvm.Cond.code ({ cls := "BoxSpansModel", name := "coinsOf", desc := "(I)I" } : Jvm.MethodName) prog_16_method_23_code (2 : Nat) (Option.some Jvm.ClassFile.FieldType.int)) ∈ lw_all := lw_g (lw_at lw_m11 237 rfl) rfl
theorem q2738 : (Jvm.Cond.methodLink "BoxSpansModel" (84 : Nat) ({ cls := "BoxSpansModel", name := "minutesOf", desc := "(I)I" } : Jvm.MethodName)) ∈ lw_all := lw_g (lw_at lw_m11 238 rfl) rfl
theorem q2739 : (Jvm.Cond.privateMethod ({ cls := "BoxSpansModel", name := "minutesOf", desc := "(I)I" } : Jvm.MethodName)) ∈ lw_tbl := lw_at lw_m11 239 rfl
theorem q2740 : (Jvm.Cond.instanceMethod ({ cls := "BoxSpansModel", name := "minutesOf", desc := "(I)I" } : Jvm.MethodName)) ∈ lw_all := lw_g (lw_at lw_m12 0 rfl) rfl
theorem q2741 : (Jvm.Cond.code ({ cls := "BoxSpansModel", name := "minutesOf", desc := "(I)I" } : Jvm.MethodName) prog_16_method_22_code (2 : Nat) (Option.some Jvm.ClassFile.FieldType.int)) ∈ lw_all := lw_g (lw_at lw_m12 1 rfl) rfl
theorem q2743 : (Jvm.Cond.instanceMethod ({ cls := "BoxSpansModel", name := "move", desc := "(II)I" } : Jvm.MethodName)) ∈ lw_all := lw_g (lw_at lw_m12 3 rfl) rfl
theorem q2744 : (Jvm.Cond.selects "BoxSpansModel" ({ cls := "BoxSpansModel", name := "move", desc := "(II)I" } : Jvm.MethodName) ({ cls := "BoxSpansModel", name := "move", desc := "(II)I" } : Jvm.MethodName)) ∈ lw_all := lw_g (lw_at lw_m12 4 rfl) rfl
theorem q2745 : (Jvm.Cond.code ({ cls := "BoxSpansModel", name := "move", desc := "(II)I" } : Jvm.MethodName) prog_16_method_34_code (3 : Nat) (Option.some Jvm.ClassFile.FieldType.int)) ∈ lw_all := lw_g (lw_at lw_m12 5 rfl) rfl
theorem q2746 : (Jvm.Cond.methodLink "BoxSpansModel" (136 : Nat) ({ cls := "BoxSpansModel", name := "isBy", desc := "(I)Z" } : Jvm.MethodName)) ∈ lw_all := lw_g (lw_at lw_m12 6 rfl) rfl
theorem q2747 : (Jvm.Cond.static ({ cls := "BoxSpansModel", name := "isBy", desc := "(I)Z" } : Jvm.MethodName)) ∈ lw_all := lw_g (lw_at lw_m12 7 rfl) rfl
theorem q2748 : (Jvm.Cond.code ({ cls := "BoxSpansModel", name := "isBy", desc := "(I)Z" } : Jvm.MethodName) prog_16_method_32_code (1 : Nat) (Option.some Jvm.ClassFile.FieldType.boolean)) ∈ lw_all := lw_g (lw_at lw_m12 8 rfl) rfl
theorem q2749 : (Jvm.Cond.methodLink "BoxSpansModel" (139 : Nat) ({ cls := "BoxSpansModel", name := "moves", desc := "(II)I" } : Jvm.MethodName)) ∈ lw_all := lw_g (lw_at lw_m12 9 rfl) rfl
theorem q2750 : (Jvm.Cond.privateMethod ({ cls := "BoxSpansModel", name := "moves", desc := "(II)I" } : Jvm.MethodName)) ∈ lw_tbl := lw_at lw_m12 10 rfl
theorem q2751 : (Jvm.Cond.instanceMethod ({ cls := "BoxSpansModel", name := "moves", desc := "(II)I" } : Jvm.MethodName)) ∈ lw_all := lw_g (lw_at lw_m12 11 rfl) rfl
theorem q2752 : (Jvm.Cond.code ({ cls := "BoxSpansModel", name := "moves", desc := "(II)I" } : Jvm.MethodName) prog_16_method_33_code (8 : Nat) (Option.some Jvm.ClassFile.FieldType.int)) ∈ lw_all := lw_g (lw_at lw_m12 12 rfl) rfl
theorem q2753 : (Jvm.Cond.methodLink "BoxSpansModel" (130 : Nat) ({ cls := "BoxSpansModel", name := "lesser", desc := "(II)I" } : Jvm.MethodName)) ∈ lw_all := lw_g (lw_at lw_m12 13 rfl) rfl
theorem q2754 : (Jvm.Cond.static ({ cls := "BoxSpansModel", name := "lesser", desc := "(II)I" } : Jvm.MethodName)) ∈ lw_all := lw_g (lw_at lw_m12 14 rfl) rfl
theorem q2755 : (Jvm.Cond.code ({ cls := "BoxSpansModel", name := "lesser", desc := "(II)I" } : Jvm.MethodName) prog_16_method_4_code (2 : Nat) (Option.some Jvm.ClassFile.FieldType.int)) ∈ lw_all := lw_g (lw_at lw_m12 15 rfl) rfl
theorem q2756 : (Jvm.Cond.methodLink "BoxSpansModel" (133 : Nat) ({ cls := "BoxSpansModel", name := "greater", desc := "(II)I" } : Jvm.MethodName)) ∈ lw_all := lw_g (lw_at lw_m12 16 rfl) rfl
theorem q2757 : (Jvm.Cond.static ({ cls := "BoxSpansModel", name := "greater", desc := "(II)I" } : Jvm.MethodName)) ∈ lw_all := lw_g (lw_at lw_m12 17 rfl) rfl
theorem q2758 : (Jvm.Cond.code ({ cls := "BoxSpansModel", name := "greater", desc := "(II)I" } : Jvm.MethodName) prog_16_method_5_code (2 : Nat) (Option.some Jvm.ClassFile.FieldType.int)) ∈ lw_all := lw_g (lw_at lw_m12 18 rfl) rfl
theorem q2760 : (Jvm.Cond.instanceMethod ({ cls := "BoxSpansModel", name := "split", desc := "(II)I" } : Jvm.MethodName)) ∈ lw_all := lw_g (lw_at lw_m12 20 rfl) rfl
theorem q2761 : (Jvm.Cond.selects "BoxSpansModel" ({ cls := "BoxSpansModel", name := "split", desc := "(II)I" } : Jvm.MethodName) ({ cls := "BoxSpansModel", name := "split", desc := "(II)I" } : Jvm.MethodName)) ∈ lw_all := lw_g (lw_at lw_m12 21 rfl) rfl
theorem q2762 : (Jvm.Cond.code ({ cls := "BoxSpansModel", name := "split", desc := "(II)I" } : Jvm.MethodName) prog_16_method_36_code (3 : Nat) (Option.some Jvm.ClassFile.FieldType.int)) ∈ lw_all := lw_g (lw_at lw_m12 22 rfl) rfl
theorem q2763 : (Jvm.Cond.methodLink "BoxSpansModel" (142 : Nat) ({ cls := "BoxSpansModel", name := "splits", desc := "(II)I" } : Jvm.MethodName)) ∈ lw_all := lw_g (lw_at lw_m12 23 rfl) rfl
theorem q2764 : (Jvm.Cond.privateMethod ({ cls := "BoxSpansModel", name := "splits", desc := "(II)I" } : Jvm.MethodName)) ∈ lw_tbl := lw_at lw_m12 24 rfl
theorem q2765 : (Jvm.Cond.instanceMethod ({ cls := "BoxSpansModel", name := "splits", desc := "(II)I" } : Jvm.MethodName)) ∈ lw_all := lw_g (lw_at lw_m12 25 rfl) rfl
theorem q2766 : (Jvm.Cond.code ({ cls := "BoxSpansModel", name := "splits", desc := "(II)I" } : Jvm.MethodName) prog_16_method_35_code (5 : Nat) (Option.some Jvm.ClassFile.FieldType.int)) ∈ lw_all := lw_g (lw_at lw_m12 26 rfl) rfl
theorem q2768 : (Jvm.Cond.instanceMethod ({ cls := "BoxSpansModel", name := "join", desc := "(II)I" } : Jvm.MethodName)) ∈ lw_all := lw_g (lw_at lw_m12 28 rfl) rfl
theorem q2769 : (Jvm.Cond.selects "BoxSpansModel" ({ cls := "BoxSpansModel", name := "join", desc := "(II)I" } : Jvm.MethodName) ({ cls := "BoxSpansModel", name := "join", desc := "(II)I" } : Jvm.MethodName)) ∈ lw_all := lw_g (lw_at lw_m12 29 rfl) rfl
theorem q2770 : (Jvm.Cond.code ({ cls := "BoxSpansModel", name := "join", desc := "(II)I" } : Jvm.MethodName) prog_16_method_38_code (3 : Nat) (Option.some Jvm.ClassFile.FieldType.int)) ∈ lw_all := lw_g (lw_at lw_m12 30 rfl) rfl
theorem q2771 : (Jvm.Cond.methodLink "BoxSpansModel" (145 : Nat) ({ cls := "BoxSpansModel", name := "joins", desc := "(II)I" } : Jvm.MethodName)) ∈ lw_all := lw_g (lw_at lw_m12 31 rfl) rfl
theorem q2772 : (Jvm.Cond.privateMethod ({ cls := "BoxSpansModel", name := "joins", desc := "(II)I" } : Jvm.MethodName)) ∈ lw_tbl := lw_at lw_m12 32 rfl
theorem q2773 : (Jvm.Cond.instanceMethod ({ cls := "BoxSpansModel", name := "joins", desc := "(II)I" } : Jvm.MethodName)) ∈ lw_all := lw_g (lw_at lw_m12 33 rfl) rfl
theorem q2774 : (Jvm.Cond.code ({ cls := "BoxSpansModel", name := "joins", desc := "(II)I" } : Jvm.MethodName) prog_16_method_37_code (5 : Nat) (Option.some Jvm.ClassFile.FieldType.int)) ∈ lw_all := lw_g (lw_at lw_m12 34 rfl) rfl
theorem q2776 : (Jvm.Cond.instanceMethod ({ cls := "BoxSpansModel", name := "lettingOf", desc := "(II)I" } : Jvm.MethodName)) ∈ lw_all := lw_g (lw_at lw_m12 36 rfl) rfl
theorem q2777 : (Jvm.Cond.selects "BoxSpansModel" ({ cls := "BoxSpansModel", name := "lettingOf", desc := "(II)I" } : Jvm.MethodName) ({ cls := "BoxSpansModel", name := "lettingOf", desc := "(II)I" } : Jvm.MethodName)) ∈ lw_all := lw_g (lw_at lw_m12 37 rfl) rfl
theorem q2778 : (Jvm.Cond.code ({ cls := "BoxSpansModel", name := "lettingOf", desc := "(II)I" } : Jvm.MethodName) prog_16_method_39_code (3 : Nat) (Option.some Jvm.ClassFile.FieldType.int)) ∈ lw_all := lw_g (lw_at lw_m12 38 rfl) rfl
theorem q2780 : (Jvm.Cond.instanceMethod ({ cls := "BoxSpansModel", name := "at", desc := "(II)I" } : Jvm.MethodName)) ∈ lw_all := lw_g (lw_at lw_m12 40 rfl) rfl
theorem q2781 : (Jvm.Cond.selects "BoxSpansModel" ({ cls := "BoxSpansModel", name := "at", desc := "(II)I" } : Jvm.MethodName) ({ cls := "BoxSpansModel", name := "at", desc := "(II)I" } : Jvm.MethodName)) ∈ lw_all := lw_g (lw_at lw_m12 41 rfl) rfl
theorem q2782 : (Jvm.Cond.code ({ cls := "BoxSpansModel", name := "at", desc := "(II)I" } : Jvm.MethodName) prog_16_method_41_code (3 : Nat) (Option.some Jvm.ClassFile.FieldType.int)) ∈ lw_all := lw_g (lw_at lw_m12 42 rfl) rfl
theorem q2783 : (Jvm.Cond.methodLink "BoxSpansModel" (148 : Nat) ({ cls := "BoxSpansModel", name := "letAt", desc := "(II)I" } : Jvm.MethodName)) ∈ lw_all := lw_g (lw_at lw_m12 43 rfl) rfl
theorem q2784 : (Jvm.Cond.privateMethod ({ cls := "BoxSpansModel", name := "letAt", desc := "(II)I" } : Jvm.MethodName)) ∈ lw_tbl := lw_at lw_m12 44 rfl
theorem q2785 : (Jvm.Cond.instanceMethod ({ cls := "BoxSpansModel", name := "letAt", desc := "(II)I" } : Jvm.MethodName)) ∈ lw_all := lw_g (lw_at lw_m12 45 rfl) rfl
theorem q2786 : (Jvm.Cond.code ({ cls := "BoxSpansModel", name := "letAt", desc := "(II)I" } : Jvm.MethodName) prog_16_method_40_code (3 : Nat) (Option.some Jvm.ClassFile.FieldType.int)) ∈ lw_all := lw_g (lw_at lw_m12 46 rfl) rfl
theorem q2788 : (Jvm.Cond.instanceMethod ({ cls := "BoxSpansModel", name := "wish", desc := "(III)I" } : Jvm.MethodName)) ∈ lw_all := lw_g (lw_at lw_m12 48 rfl) rfl
theorem q2789 : (Jvm.Cond.selects "BoxSpansModel" ({ cls := "BoxSpansModel", name := "wish", desc := "(III)I" } : Jvm.MethodName) ({ cls := "BoxSpansModel", name := "wish", desc := "(III)I" } : Jvm.MethodName)) ∈ lw_all := lw_g (lw_at lw_m12 49 rfl) rfl
theorem q2790 : (Jvm.Cond.code ({ cls := "BoxSpansModel", name := "wish", desc := "(III)I" } : Jvm.MethodName) prog_16_method_43_code (4 : Nat) (Option.some Jvm.ClassFile.FieldType.int)) ∈ lw_all := lw_g (lw_at lw_m12 50 rfl) rfl
theorem q2791 : (Jvm.Cond.methodLink "BoxSpansModel" (151 : Nat) ({ cls := "BoxSpansModel", name := "wishes", desc := "(III)I" } : Jvm.MethodName)) ∈ lw_all := lw_g (lw_at lw_m12 51 rfl) rfl
theorem q2792 : (Jvm.Cond.privateMethod ({ cls := "BoxSpansModel", name := "wishes", desc := "(III)I" } : Jvm.MethodName)) ∈ lw_tbl := lw_at lw_m12 52 rfl
theorem q2793 : (Jvm.Cond.instanceMethod ({ cls := "BoxSpansModel", name := "wishes", desc := "(III)I" } : Jvm.MethodName)) ∈ lw_all := lw_g (lw_at lw_m12 53 rfl) rfl
theorem q2794 : (Jvm.Cond.code ({ cls := "BoxSpansModel", name := "wishes", desc := "(III)I" } : Jvm.MethodName) prog_16_method_42_code (5 : Nat) (Option.some Jvm.ClassFile.FieldType.int)) ∈ lw_all := lw_g (lw_at lw_m12 54 rfl) rfl
theorem q2795 : (Jvm.Cond.methodLink "BoxSpansModel" (67 : Nat) ({ cls := "BoxSpansModel", name := "wishAt", desc := "(II)I" } : Jvm.MethodName)) ∈ lw_all := lw_g (lw_at lw_m12 55 rfl) rfl
theorem q2796 : (Jvm.Cond.static ({ cls := "BoxSpansModel", name := "wishAt", desc := "(II)I" } : Jvm.MethodName)) ∈ lw_all := lw_g (lw_at lw_m12 56 rfl) rfl
theorem q2797 : (Jvm.Cond.code ({ cls := "BoxSpansModel", name := "wishAt", desc := "(II)I" } : Jvm.MethodName) prog_16_method_14_code (2 : Nat) (Option.some Jvm.ClassFile.FieldType.int)) ∈ lw_all := lw_g (lw_at lw_m12 57 rfl) rfl
theorem q2799 : (Jvm.Cond.instanceMethod ({ cls := "BoxSpansModel", name := "drop", desc := "(I)I" } : Jvm.MethodName)) ∈ lw_all := lw_g (lw_at lw_m12 59 rfl) rfl
theorem q2800 : (Jvm.Cond.selects "BoxSpansModel" ({ cls := "BoxSpansModel", name := "drop", desc := "(I)I" } : Jvm.MethodName) ({ cls := "BoxSpansModel", name := "drop", desc := "(I)I" } : Jvm.MethodName)) ∈ lw_all := lw_g (lw_at lw_m12 60 rfl) rfl
theorem q2801 : (Jvm.Cond.code ({ cls := "BoxSpansModel", name := "drop", desc := "(I)I" } : Jvm.MethodName) prog_16_method_45_code (2 : Nat) (Option.some Jvm.ClassFile.FieldType.int)) ∈ lw_all := lw_g (lw_at lw_m12 61 rfl) rfl
theorem q2802 : (Jvm.Cond.methodLink "BoxSpansModel" (155 : Nat) ({ cls := "BoxSpansModel", name := "isWish", desc := "(I)Z" } : Jvm.MethodName)) ∈ lw_all := lw_g (lw_at lw_m12 62 rfl) rfl
theorem q2803 : (Jvm.Cond.privateMethod ({ cls := "BoxSpansModel", name := "isWish", desc := "(I)Z" } : Jvm.MethodName)) ∈ lw_tbl := lw_at lw_m12 63 rfl
theorem q2804 : (Jvm.Cond.instanceMethod ({ cls := "BoxSpansModel", name := "isWish", desc := "(I)Z" } : Jvm.MethodName)) ∈ lw_all := lw_g (lw_at lw_m12 64 rfl) rfl
theorem q2805 : (Jvm.Cond.code ({ cls := "BoxSpansModel", name := "isWish", desc := "(I)Z" } : Jvm.MethodName) prog_16_method_18_code (2 : Nat) (Option.some Jvm.ClassFile.FieldType.boolean)) ∈ lw_all := lw_g (lw_at lw_m12 65 rfl) rfl
theorem q2806 : (Jvm.Cond.methodLink "BoxSpansModel" (158 : Nat) ({ cls := "BoxSpansModel", name := "drops", desc := "(I)I" } : Jvm.MethodName)) ∈ lw_all := lw_g (lw_at lw_m12 66 rfl) rfl
theorem q2807 : (Jvm.Cond.privateMethod ({ cls := "BoxSpansModel", name := "drops", desc := "(I)I" } : Jvm.MethodName)) ∈ lw_tbl := lw_at lw_m12 67 rfl
theorem q2808 : (Jvm.Cond.instanceMethod ({ cls := "BoxSpansModel", name := "drops", desc := "(I)I" } : Jvm.MethodName)) ∈ lw_all := lw_g (lw_at lw_m12 68 rfl) rfl
theorem q2809 : (Jvm.Cond.code ({ cls := "BoxSpansModel", name := "drops", desc := "(I)I" } : Jvm.MethodName) prog_16_method_44_code (3 : Nat) (Option.some Jvm.ClassFile.FieldType.int)) ∈ lw_all := lw_g (lw_at lw_m12 69 rfl) rfl
theorem q2811 : (Jvm.Cond.instanceMethod ({ cls := "BoxSpansModel", name := "wishOf", desc := "(II)I" } : Jvm.MethodName)) ∈ lw_all := lw_g (lw_at lw_m12 71 rfl) rfl
theorem q2812 : (Jvm.Cond.selects "BoxSpansModel" ({ cls := "BoxSpansModel", name := "wishOf", desc := "(II)I" } : Jvm.MethodName) ({ cls := "BoxSpansModel", name := "wishOf", desc := "(II)I" } : Jvm.MethodName)) ∈ lw_all := lw_g (lw_at lw_m12 72 rfl) rfl
theorem q2813 : (Jvm.Cond.code ({ cls := "BoxSpansModel", name := "wishOf", desc := "(II)I" } : Jvm.MethodName) prog_16_method_46_code (3 : Nat) (Option.some Jvm.ClassFile.FieldType.int)) ∈ lw_all := lw_g (lw_at lw_m12 73 rfl) rfl
theorem q2814 : (Jvm.Cond.methodLink "BoxSpansModel" (161 : Nat) ({ cls := "BoxSpansModel", name := "ofWish", desc := "(II)I" } : Jvm.MethodName)) ∈ lw_all := lw_g (lw_at lw_m12 74 rfl) rfl
theorem q2815 : (Jvm.Cond.privateMethod ({ cls := "BoxSpansModel", name := "ofWish", desc := "(II)I" } : Jvm.MethodName)) ∈ lw_tbl := lw_at lw_m12 75 rfl
theorem q2816 : (Jvm.Cond.instanceMethod ({ cls := "BoxSpansModel", name := "ofWish", desc := "(II)I" } : Jvm.MethodName)) ∈ lw_all := lw_g (lw_at lw_m12 76 rfl) rfl
theorem q2817 : (Jvm.Cond.code ({ cls := "BoxSpansModel", name := "ofWish", desc := "(II)I" } : Jvm.MethodName) prog_16_method_15_code (3 : Nat) (Option.some Jvm.ClassFile.FieldType.int)) ∈ lw_all := lw_g (lw_at lw_m12 77 rfl) rfl
theorem q2819 : (Jvm.Cond.instanceMethod ({ cls := "BoxSpansModel", name := "over", desc := "(I)I" } : Jvm.MethodName)) ∈ lw_all := lw_g (lw_at lw_m12 79 rfl) rfl
theorem q2820 : (Jvm.Cond.selects "BoxSpansModel" ({ cls := "BoxSpansModel", name := "over", desc := "(I)I" } : Jvm.MethodName) ({ cls := "BoxSpansModel", name := "over", desc := "(I)I" } : Jvm.MethodName)) ∈ lw_all := lw_g (lw_at lw_m12 80 rfl) rfl
theorem q2821 : (Jvm.Cond.code ({ cls := "BoxSpansModel", name := "over", desc := "(I)I" } : Jvm.MethodName) prog_16_method_48_code (2 : Nat) (Option.some Jvm.ClassFile.FieldType.int)) ∈ lw_all := lw_g (lw_at lw_m12 81 rfl) rfl
theorem q2822 : (Jvm.Cond.methodLink "BoxSpansModel" (164 : Nat) ({ cls := "BoxSpansModel", name := "wishesOver", desc := "(I)I" } : Jvm.MethodName)) ∈ lw_all := lw_g (lw_at lw_m12 82 rfl) rfl
theorem q2823 : (Jvm.Cond.privateMethod ({ cls := "BoxSpansModel", name := "wishesOver", desc := "(I)I" } : Jvm.MethodName)) ∈ lw_tbl := lw_at lw_m12 83 rfl
theorem q2824 : (Jvm.Cond.instanceMethod ({ cls := "BoxSpansModel", name := "wishesOver", desc := "(I)I" } : Jvm.MethodName)) ∈ lw_all := lw_g (lw_at lw_m12 84 rfl) rfl
theorem q2825 : (Jvm.Cond.code ({ cls := "BoxSpansModel", name := "wishesOver", desc := "(I)I" } : Jvm.MethodName) prog_16_method_47_code (4 : Nat) (Option.some Jvm.ClassFile.FieldType.int)) ∈ lw_all := lw_g (lw_at lw_m12 85 rfl) rfl
theorem q2827 : (Jvm.Cond.instanceMethod ({ cls := "BoxSpansModel", name := "overAgain", desc := "(I)I" } : Jvm.MethodName)) ∈ lw_all := lw_g (lw_at lw_m12 87 rfl) rfl
theorem q2828 : (Jvm.Cond.selects "BoxSpansModel" ({ cls := "BoxSpansModel", name := "overAgain", desc := "(I)I" } : Jvm.MethodName) ({ cls := "BoxSpansModel", name := "overAgain", desc := "(I)I" } : Jvm.MethodName)) ∈ lw_all := lw_g (lw_at lw_m12 88 rfl) rfl
theorem q2829 : (Jvm.Cond.code ({ cls := "BoxSpansModel", name := "overAgain", desc := "(I)I" } : Jvm.MethodName) prog_16_method_49_code (4 : Nat) (Option.some Jvm.ClassFile.FieldType.int)) ∈ lw_all := lw_g (lw_at lw_m12 89 rfl) rfl
theorem q2831 : (Jvm.Cond.instanceMethod ({ cls := "BoxSpansModel", name := "busiest", desc := "()I" } : Jvm.MethodName)) ∈ lw_all := lw_g (lw_at lw_m12 91 rfl) rfl
theorem q2832 : (Jvm.Cond.selects "BoxSpansModel" ({ cls := "BoxSpansModel", name := "busiest", desc := "()I" } : Jvm.MethodName) ({ cls := "BoxSpansModel", name := "busiest", desc := "()I" } : Jvm.MethodName)) ∈ lw_all := lw_g (lw_at lw_m12 92 rfl) rfl
theorem q2833 : (Jvm.Cond.code ({ cls := "BoxSpansModel", name := "busiest", desc := "()I" } : Jvm.MethodName) prog_16_method_50_code (3 : Nat) (Option.some Jvm.ClassFile.FieldType.int)) ∈ lw_all := lw_g (lw_at lw_m12 93 rfl) rfl
theorem q2835 : (Jvm.Cond.instanceMethod ({ cls := "BoxSpansModel", name := "needs", desc := "()I" } : Jvm.MethodName)) ∈ lw_all := lw_g (lw_at lw_m12 95 rfl) rfl
theorem q2836 : (Jvm.Cond.selects "BoxSpansModel" ({ cls := "BoxSpansModel", name := "needs", desc := "()I" } : Jvm.MethodName) ({ cls := "BoxSpansModel", name := "needs", desc := "()I" } : Jvm.MethodName)) ∈ lw_all := lw_g (lw_at lw_m12 96 rfl) rfl
theorem q2837 : (Jvm.Cond.code ({ cls := "BoxSpansModel", name := "needs", desc := "()I" } : Jvm.MethodName) prog_16_method_51_code (3 : Nat) (Option.some Jvm.ClassFile.FieldType.int)) ∈ lw_all := lw_g (lw_at lw_m12 97 rfl) rfl
theorem q2839 : (Jvm.Cond.instanceMethod ({ cls := "BoxSpansModel", name := "needsAgain", desc := "()I" } : Jvm.MethodName)) ∈ lw_all := lw_g (lw_at lw_m12 99 rfl) rfl
theorem q2840 : (Jvm.Cond.selects "BoxSpansModel" ({ cls := "BoxSpansModel", name := "needsAgain", desc := "()I" } : Jvm.MethodName) ({ cls := "BoxSpansModel", name := "needsAgain", desc := "()I" } : Jvm.MethodName)) ∈ lw_all := lw_g (lw_at lw_m12 100 rfl) rfl
theorem q2841 : (Jvm.Cond.code ({ cls := "BoxSpansModel", name := "needsAgain", desc := "()I" } : Jvm.MethodName) prog_16_method_52_code (7 : Nat) (Option.some Jvm.ClassFile.FieldType.int)) ∈ lw_all := lw_g (lw_at lw_m12 101 rfl) rfl
theorem q2843 : (Jvm.Cond.instanceMethod ({ cls := "BoxSpansModel", name := "allot", desc := "()I" } : Jvm.MethodName)) ∈ lw_all := lw_g (lw_at lw_m12 103 rfl) rfl
theorem q2844 : (Jvm.Cond.selects "BoxSpansModel" ({ cls := "BoxSpansModel", name := "allot", desc := "()I" } : Jvm.MethodName) ({ cls := "BoxSpansModel", name := "allot", desc := "()I" } : Jvm.MethodName)) ∈ lw_all := lw_g (lw_at lw_m12 104 rfl) rfl
theorem q2845 : (Jvm.Cond.code ({ cls := "BoxSpansModel", name := "allot", desc := "()I" } : Jvm.MethodName) prog_16_method_57_code (1 : Nat) (Option.some Jvm.ClassFile.FieldType.int)) ∈ lw_all := lw_g (lw_at lw_m12 105 rfl) rfl
theorem q2846 : (Jvm.Cond.methodLink "BoxSpansModel" (177 : Nat) ({ cls := "BoxSpansModel", name := "allots", desc := "()I" } : Jvm.MethodName)) ∈ lw_all := lw_g (lw_at lw_m12 106 rfl) rfl
theorem q2847 : (Jvm.Cond.privateMethod ({ cls := "BoxSpansModel", name := "allots", desc := "()I" } : Jvm.MethodName)) ∈ lw_tbl := lw_at lw_m12 107 rfl
theorem q2848 : (Jvm.Cond.instanceMethod ({ cls := "BoxSpansModel", name := "allots", desc := "()I" } : Jvm.MethodName)) ∈ lw_all := lw_g (lw_at lw_m12 108 rfl) rfl
theorem q2849 : (Jvm.Cond.code ({ cls := "BoxSpansModel", name := "allots", desc := "()I" } : Jvm.MethodName) prog_16_method_56_code (7 : Nat) (Option.some Jvm.ClassFile.FieldType.int)) ∈ lw_all := lw_g (lw_at lw_m12 109 rfl) rfl
theorem q2850 : (Jvm.Cond.methodLink "BoxSpansModel" (171 : Nat) ({ cls := "BoxSpansModel", name := "nextWish", desc := "(I)I" } : Jvm.MethodName)) ∈ lw_all := lw_g (lw_at lw_m12 110 rfl) rfl
theorem q2851 : (Jvm.Cond.privateMethod ({ cls := "BoxSpansModel", name := "nextWish", desc := "(I)I" } : Jvm.MethodName)) ∈ lw_tbl := lw_at lw_m12 111 rfl
theorem q2852 : (Jvm.Cond.instanceMethod ({ cls := "BoxSpansModel", name := "nextWish", desc := "(I)I" } : Jvm.MethodName)) ∈ lw_all := lw_g (lw_at lw_m12 112 rfl) rfl
theorem q2853 : (Jvm.Cond.code ({ cls := "BoxSpansModel", name := "nextWish", desc := "(I)I" } : Jvm.MethodName) prog_16_method_55_code (4 : Nat) (Option.some Jvm.ClassFile.FieldType.int)) ∈ lw_all := lw_g (lw_at lw_m12 113 rfl) rfl
theorem q2854 : (Jvm.Cond.methodLink "BoxSpansModel" (167 : Nat) ({ cls := "BoxSpansModel", name := "isWishAhead", desc := "(II)Z" } : Jvm.MethodName)) ∈ lw_all := lw_g (lw_at lw_m12 114 rfl) rfl
theorem q2855 : (Jvm.Cond.privateMethod ({ cls := "BoxSpansModel", name := "isWishAhead", desc := "(II)Z" } : Jvm.MethodName)) ∈ lw_tbl := lw_at lw_m12 115 rfl
theorem q2856 : (Jvm.Cond.instanceMethod ({ cls := "BoxSpansModel", name := "isWishAhead", desc := "(II)Z" } : Jvm.MethodName)) ∈ lw_all := lw_g (lw_at lw_m12 116 rfl) rfl
theorem q2857 : (Jvm.Cond.code ({ cls := "BoxSpansModel", name := "isWishAhead", desc := "(II)Z" } : Jvm.MethodName) prog_16_method_54_code (5 : Nat) (Option.some Jvm.ClassFile.FieldType.boolean)) ∈ lw_all := lw_g (lw_at lw_m12 117 rfl) rfl
theorem q2858 : (Jvm.Cond.methodLink "BoxSpansModel" (174 : Nat) ({ cls := "BoxSpansModel", name := "room", desc := "(III)I" } : Jvm.MethodName)) ∈ lw_all := lw_g (lw_at lw_m12 118 rfl) rfl
theorem q2859 : (Jvm.Cond.privateMethod ({ cls := "BoxSpansModel", name := "room", desc := "(III)I" } : Jvm.MethodName)) ∈ lw_tbl := lw_at lw_m12 119 rfl
theorem q2860 : (Jvm.Cond.instanceMethod ({ cls := "BoxSpansModel", name := "room", desc := "(III)I" } : Jvm.MethodName)) ∈ lw_all := lw_g (lw_at lw_m12 120 rfl) rfl
theorem q2861 : (Jvm.Cond.code ({ cls := "BoxSpansModel", name := "room", desc := "(III)I" } : Jvm.MethodName) prog_16_method_53_code (5 : Nat) (Option.some Jvm.ClassFile.FieldType.int)) ∈ lw_all := lw_g (lw_at lw_m12 121 rfl) rfl
theorem q2863 : (Jvm.Cond.instanceMethod ({ cls := "BoxSpansModel", name := "boxOf", desc := "(II)I" } : Jvm.MethodName)) ∈ lw_all := lw_g (lw_at lw_m12 123 rfl) rfl
theorem q2864 : (Jvm.Cond.selects "BoxSpansModel" ({ cls := "BoxSpansModel", name := "boxOf", desc := "(II)I" } : Jvm.MethodName) ({ cls := "BoxSpansModel", name := "boxOf", desc := "(II)I" } : Jvm.MethodName)) ∈ lw_all := lw_g (lw_at lw_m12 124 rfl) rfl
theorem q2865 : (Jvm.Cond.code ({ cls := "BoxSpansModel", name := "boxOf", desc := "(II)I" } : Jvm.MethodName) prog_16_method_65_code (3 : Nat) (Option.some Jvm.ClassFile.FieldType.int)) ∈ lw_all := lw_g (lw_at lw_m12 125 rfl) rfl
theorem q2866 : (Jvm.Cond.methodLink "BoxSpansModel" (194 : Nat) ({ cls := "BoxSpansModel", name := "lettingsIn", desc := "(I)I" } : Jvm.MethodName)) ∈ lw_all := lw_g (lw_at lw_m12 126 rfl) rfl
theorem q2867 : (Jvm.Cond.privateMethod ({ cls := "BoxSpansModel", name := "lettingsIn", desc := "(I)I" } : Jvm.MethodName)) ∈ lw_tbl := lw_at lw_m12 127 rfl
theorem q2868 : (Jvm.Cond.instanceMethod ({ cls := "BoxSpansModel", name := "lettingsIn", desc := "(I)I" } : Jvm.MethodName)) ∈ lw_all := lw_g (lw_at lw_m12 128 rfl) rfl
theorem q2869 : (Jvm.Cond.code ({ cls := "BoxSpansModel", name := "lettingsIn", desc := "(I)I" } : Jvm.MethodName) prog_16_method_64_code (4 : Nat) (Option.some Jvm.ClassFile.FieldType.int)) ∈ lw_all := lw_g (lw_at lw_m12 129 rfl) rfl
theorem q2870 : (Jvm.Cond.methodLink "BoxSpansModel" (197 : Nat) ({ cls := "BoxSpansModel", name := "minutesLet", desc := "(I)I" } : Jvm.MethodName)) ∈ lw_all := lw_g (lw_at lw_m12 130 rfl) rfl
theorem q2871 : (Jvm.Cond.privateMethod ({ cls := "BoxSpansModel", name := "minutesLet", desc := "(I)I" } : Jvm.MethodName)) ∈ lw_tbl := lw_at lw_m12 131 rfl
theorem q2872 : (Jvm.Cond.instanceMethod ({ cls := "BoxSpansModel", name := "minutesLet", desc := "(I)I" } : Jvm.MethodName)) ∈ lw_all := lw_g (lw_at lw_m12 132 rfl) rfl
theorem q2873 : (Jvm.Cond.code ({ cls := "BoxSpansModel", name := "minutesLet", desc := "(I)I" } : Jvm.MethodName) prog_16_method_59_code (2 : Nat) (Option.some Jvm.ClassFile.FieldType.int)) ∈ lw_all := lw_g (lw_at lw_m12 133 rfl) rfl
theorem q2874 : (Jvm.Cond.methodLink "BoxSpansModel" (181 : Nat) ({ cls := "BoxSpansModel", name := "letIn", desc := "(III)I" } : Jvm.MethodName)) ∈ lw_all := lw_g (lw_at lw_m12 134 rfl) rfl
theorem q2875 : (Jvm.Cond.privateMethod ({ cls := "BoxSpansModel", name := "letIn", desc := "(III)I" } : Jvm.MethodName)) ∈ lw_tbl := lw_at lw_m12 135 rfl
theorem q2876 : (Jvm.Cond.instanceMethod ({ cls := "BoxSpansModel", name := "letIn", desc := "(III)I" } : Jvm.MethodName)) ∈ lw_all := lw_g (lw_at lw_m12 136 rfl) rfl
theorem q2877 : (Jvm.Cond.code ({ cls := "BoxSpansModel", name := "letIn", desc := "(III)I" } : Jvm.MethodName) prog_16_method_58_code (6 : Nat) (Option.some Jvm.ClassFile.FieldType.int)) ∈ lw_all := lw_g (lw_at lw_m12 137 rfl) rfl
theorem q2878 : (Jvm.Cond.methodLink "BoxSpansModel" (190 : Nat) ({ cls := "BoxSpansModel", name := "spans", desc := "(IZI)I" } : Jvm.MethodName)) ∈ lw_all := lw_g (lw_at lw_m12 138 rfl) rfl
theorem q2879 : (Jvm.Cond.privateMethod ({ cls := "BoxSpansModel", name := "spans", desc := "(IZI)I" } : Jvm.MethodName)) ∈ lw_tbl := lw_at lw_m12 139 rfl
theorem q2880 : (Jvm.Cond.instanceMethod ({ cls := "BoxSpansModel", name := "spans", desc := "(IZI)I" } : Jvm.MethodName)) ∈ lw_all := lw_g (lw_at lw_m12 140 rfl) rfl
theorem q2881 : (Jvm.Cond.code ({ cls := "BoxSpansModel", name := "spans", desc := "(IZI)I" } : Jvm.MethodName) prog_16_method_61_code (8 : Nat) (Option.some Jvm.ClassFile.FieldType.int)) ∈ lw_all := lw_g (lw_at lw_m12 141 rfl) rfl
theorem q2882 : (Jvm.Cond.methodLink "BoxSpansModel" (184 : Nat) ({ cls := "BoxSpansModel", name := "isLet", desc := "(II)Z" } : Jvm.MethodName)) ∈ lw_all := lw_g (lw_at lw_m12 142 rfl) rfl
theorem q2883 : (Jvm.Cond.privateMethod ({ cls := "BoxSpansModel", name := "isLet", desc := "(II)Z" } : Jvm.MethodName)) ∈ lw_tbl := lw_at lw_m12 143 rfl
theorem q2884 : (Jvm.Cond.instanceMethod ({ cls := "BoxSpansModel", name := "isLet", desc := "(II)Z" } : Jvm.MethodName)) ∈ lw_all := lw_g (lw_at lw_m12 144 rfl) rfl
theorem q2885 : (Jvm.Cond.code ({ cls := "BoxSpansModel", name := "isLet", desc := "(II)Z" } : Jvm.MethodName) prog_16_method_60_code (3 : Nat) (Option.some Jvm.ClassFile.FieldType.boolean)) ∈ lw_all := lw_g (lw_at lw_m12 145 rfl) rfl
theorem q2886 : (Jvm.Cond.methodLink "BoxSpansModel" (200 : Nat) ({ cls := "BoxSpansModel", name := "longestGap", desc := "(I)I" } : Jvm.MethodName)) ∈ lw_all := lw_g (lw_at lw_m12 146 rfl) rfl
theorem q2887 : (Jvm.Cond.privateMethod ({ cls := "BoxSpansModel", name := "longestGap", desc := "(I)I" } : Jvm.MethodName)) ∈ lw_tbl := lw_at lw_m12 147 rfl
theorem q2888 : (Jvm.Cond.instanceMethod ({ cls := "BoxSpansModel", name := "longestGap", desc := "(I)I" } : Jvm.MethodName)) ∈ lw_all := lw_g (lw_at lw_m12 148 rfl) rfl
theorem q2889 : (Jvm.Cond.code ({ cls := "BoxSpansModel", name := "longestGap", desc := "(I)I" } : Jvm.MethodName) prog_16_method_62_code (2 : Nat) (Option.some Jvm.ClassFile.FieldType.int)) ∈ lw_all := lw_g (lw_at lw_m12 149 rfl) rfl
theorem q2890 : (Jvm.Cond.methodLink "BoxSpansModel" (203 : Nat) ({ cls := "BoxSpansModel", name := "coinsIn", desc := "(I)I" } : Jvm.MethodName)) ∈ lw_all := lw_g (lw_at lw_m12 150 rfl) rfl
theorem q2891 : (Jvm.Cond.privateMethod ({ cls := "BoxSpansModel", name := "coinsIn", desc := "(I)I" } : Jvm.MethodName)) ∈ lw_tbl := lw_at lw_m12 151 rfl
theorem q2892 : (Jvm.Cond.instanceMethod ({ cls := "BoxSpansModel", name := "coinsIn", desc := "(I)I" } : Jvm.MethodName)) ∈ lw_all := lw_g (lw_at lw_m12 152 rfl) rfl
theorem q2893 : (Jvm.Cond.code ({ cls := "BoxSpansModel", name := "coinsIn", desc := "(I)I" } : Jvm.MethodName) prog_16_method_63_code (4 : Nat) (Option.some Jvm.ClassFile.FieldType.int)) ∈ lw_all := lw_g (lw_at lw_m12 153 rfl) rfl
theorem q2895 : (Jvm.Cond.instanceMethod ({ cls := "BoxSpansModel", name := "span", desc := "(IIZ)I" } : Jvm.MethodName)) ∈ lw_all := lw_g (lw_at lw_m12 155 rfl) rfl
theorem q2896 : (Jvm.Cond.selects "BoxSpansModel" ({ cls := "BoxSpansModel", name := "span", desc := "(IIZ)I" } : Jvm.MethodName) ({ cls := "BoxSpansModel", name := "span", desc := "(IIZ)I" } : Jvm.MethodName)) ∈ lw_all := lw_g (lw_at lw_m12 156 rfl) rfl
theorem q2897 : (Jvm.Cond.code ({ cls := "BoxSpansModel", name := "span", desc := "(IIZ)I" } : Jvm.MethodName) prog_16_method_67_code (4 : Nat) (Option.some Jvm.ClassFile.FieldType.int)) ∈ lw_all := lw_g (lw_at lw_m12 157 rfl) rfl
theorem q2898 : (Jvm.Cond.methodLink "BoxSpansModel" (206 : Nat) ({ cls := "BoxSpansModel", name := "endOf", desc := "(IZIZ)I" } : Jvm.MethodName)) ∈ lw_all := lw_g (lw_at lw_m12 158 rfl) rfl
theorem q2899 : (Jvm.Cond.privateMethod ({ cls := "BoxSpansModel", name := "endOf", desc := "(IZIZ)I" } : Jvm.MethodName)) ∈ lw_tbl := lw_at lw_m12 159 rfl
theorem q2900 : (Jvm.Cond.instanceMethod ({ cls := "BoxSpansModel", name := "endOf", desc := "(IZIZ)I" } : Jvm.MethodName)) ∈ lw_all := lw_g (lw_at lw_m12 160 rfl) rfl
theorem q2901 : (Jvm.Cond.code ({ cls := "BoxSpansModel", name := "endOf", desc := "(IZIZ)I" } : Jvm.MethodName) prog_16_method_66_code (5 : Nat) (Option.some Jvm.ClassFile.FieldType.int)) ∈ lw_all := lw_g (lw_at lw_m12 161 rfl) rfl
theorem q2903 : (Jvm.Cond.instanceMethod ({ cls := "BoxSpansModel", name := "gap", desc := "(IIZ)I" } : Jvm.MethodName)) ∈ lw_all := lw_g (lw_at lw_m12 163 rfl) rfl
theorem q2904 : (Jvm.Cond.selects "BoxSpansModel" ({ cls := "BoxSpansModel", name := "gap", desc := "(IIZ)I" } : Jvm.MethodName) ({ cls := "BoxSpansModel", name := "gap", desc := "(IIZ)I" } : Jvm.MethodName)) ∈ lw_all := lw_g (lw_at lw_m12 164 rfl) rfl
theorem q2905 : (Jvm.Cond.code ({ cls := "BoxSpansModel", name := "gap", desc := "(IIZ)I" } : Jvm.MethodName) prog_16_method_68_code (4 : Nat) (Option.some Jvm.ClassFile.FieldType.int)) ∈ lw_all := lw_g (lw_at lw_m12 165 rfl) rfl
theorem q2907 : (Jvm.Cond.instanceMethod ({ cls := "BoxSpansModel", name := "fits", desc := "(II)I" } : Jvm.MethodName)) ∈ lw_all := lw_g (lw_at lw_m12 167 rfl) rfl
theorem q2908 : (Jvm.Cond.selects "BoxSpansModel" ({ cls := "BoxSpansModel", name := "fits", desc := "(II)I" } : Jvm.MethodName) ({ cls := "BoxSpansModel", name := "fits", desc := "(II)I" } : Jvm.MethodName)) ∈ lw_all := lw_g (lw_at lw_m12 168 rfl) rfl
theorem q2909 : (Jvm.Cond.code ({ cls := "BoxSpansModel", name := "fits", desc := "(II)I" } : Jvm.MethodName) prog_16_method_69_code (4 : Nat) (Option.some Jvm.ClassFile.FieldType.int)) ∈ lw_all := lw_g (lw_at lw_m12 169 rfl) rfl
theorem q2911 : (Jvm.Cond.instanceMethod ({ cls := "BoxSpansModel", name := "roomFor", desc := "(III)I" } : Jvm.MethodName)) ∈ lw_all := lw_g (lw_at lw_m12 171 rfl) rfl
theorem q2912 : (Jvm.Cond.selects "BoxSpansModel" ({ cls := "BoxSpansModel", name := "roomFor", desc := "(III)I" } : Jvm.MethodName) ({ cls := "BoxSpansModel", name := "roomFor", desc := "(III)I" } : Jvm.MethodName)) ∈ lw_all := lw_g (lw_at lw_m12 172 rfl) rfl
theorem q2913 : (Jvm.Cond.code ({ cls := "BoxSpansModel", name := "roomFor", desc := "(III)I" } : Jvm.MethodName) prog_16_method_70_code (5 : Nat) (Option.some Jvm.ClassFile.FieldType.int)) ∈ lw_all := lw_g (lw_at lw_m12 173 rfl) rfl
theorem q2915 : (Jvm.Cond.instanceMethod ({ cls := "BoxSpansModel", name := "hour", desc := "(II)I" } : Jvm.MethodName)) ∈ lw_all := lw_g (lw_at lw_m12 175 rfl) rfl
theorem q2916 : (Jvm.Cond.selects "BoxSpansModel" ({ cls := "BoxSpansModel", name := "hour", desc := "(II)I" } : Jvm.MethodName) ({ cls := "BoxSpansModel", name := "hour", desc := "(II)I" } : Jvm.MethodName)) ∈ lw_all := lw_g (lw_at lw_m12 176 rfl) rfl
theorem q2917 : (Jvm.Cond.code ({ cls := "BoxSpansModel", name := "hour", desc := "(II)I" } : Jvm.MethodName) prog_16_method_72_code (3 : Nat) (Option.some Jvm.ClassFile.FieldType.int)) ∈ lw_all := lw_g (lw_at lw_m12 177 rfl) rfl
theorem q2918 : (Jvm.Cond.methodLink "BoxSpansModel" (210 : Nat) ({ cls := "BoxSpansModel", name := "isHour", desc := "(I)Z" } : Jvm.MethodName)) ∈ lw_all := lw_g (lw_at lw_m12 178 rfl) rfl
theorem q2919 : (Jvm.Cond.static ({ cls := "BoxSpansModel", name := "isHour", desc := "(I)Z" } : Jvm.MethodName)) ∈ lw_all := lw_g (lw_at lw_m12 179 rfl) rfl
theorem q2920 : (Jvm.Cond.code ({ cls := "BoxSpansModel", name := "isHour", desc := "(I)Z" } : Jvm.MethodName) prog_16_method_71_code (1 : Nat) (Option.some Jvm.ClassFile.FieldType.boolean)) ∈ lw_all := lw_g (lw_at lw_m12 180 rfl) rfl
theorem q2922 : (Jvm.Cond.instanceMethod ({ cls := "BoxSpansModel", name := "ranked", desc := "(I)I" } : Jvm.MethodName)) ∈ lw_all := lw_g (lw_at lw_m12 182 rfl) rfl
theorem q2923 : (Jvm.Cond.selects "BoxSpansModel" ({ cls := "BoxSpansModel", name := "ranked", desc := "(I)I" } : Jvm.MethodName) ({ cls := "BoxSpansModel", name := "ranked", desc := "(I)I" } : Jvm.MethodName)) ∈ lw_all := lw_g (lw_at lw_m12 183 rfl) rfl
theorem q2924 : (Jvm.Cond.code ({ cls := "BoxSpansModel", name := "ranked", desc := "(I)I" } : Jvm.MethodName) prog_16_method_74_code (5 : Nat) (Option.some Jvm.ClassFile.FieldType.int)) ∈ lw_all := lw_g (lw_at lw_m12 184 rfl) rfl
theorem q2925 : (Jvm.Cond.methodLink "BoxSpansModel" (213 : Nat) ({ cls := "BoxSpansModel", name := "isBoxAhead", desc := "(II)Z" } : Jvm.MethodName)) ∈ lw_all := lw_g (lw_at lw_m12 185 rfl) rfl
theorem q2926 : (Jvm.Cond.privateMethod ({ cls := "BoxSpansModel", name := "isBoxAhead", desc := "(II)Z" } : Jvm.MethodName)) ∈ lw_tbl := lw_at lw_m12 186 rfl
theorem q2927 : (Jvm.Cond.instanceMethod ({ cls := "BoxSpansModel", name := "isBoxAhead", desc := "(II)Z" } : Jvm.MethodName)) ∈ lw_all := lw_g (lw_at lw_m12 187 rfl) rfl
theorem q2928 : (Jvm.Cond.code ({ cls := "BoxSpansModel", name := "isBoxAhead", desc := "(II)Z" } : Jvm.MethodName) prog_16_method_73_code (5 : Nat) (Option.some Jvm.ClassFile.FieldType.boolean)) ∈ lw_all := lw_g (lw_at lw_m12 188 rfl) rfl
theorem q2930 : (Jvm.Cond.instanceMethod ({ cls := "BoxSpansModel", name := "describe", desc := "(I)I" } : Jvm.MethodName)) ∈ lw_all := lw_g (lw_at lw_m12 190 rfl) rfl
theorem q2931 : (Jvm.Cond.selects "BoxSpansModel" ({ cls := "BoxSpansModel", name := "describe", desc := "(I)I" } : Jvm.MethodName) ({ cls := "BoxSpansModel", name := "describe", desc := "(I)I" } : Jvm.MethodName)) ∈ lw_all := lw_g (lw_at lw_m12 191 rfl) rfl
theorem q2932 : (Jvm.Cond.code ({ cls := "BoxSpansModel", name := "describe", desc := "(I)I" } : Jvm.MethodName) prog_16_method_78_code (3 : Nat) (Option.some Jvm.ClassFile.FieldType.int)) ∈ lw_all := lw_g (lw_at lw_m12 192 rfl) rfl
theorem q2933 : (Jvm.Cond.methodLink "BoxSpansModel" (226 : Nat) ({ cls := "BoxSpansModel", name := "nextLetting", desc := "(II)I" } : Jvm.MethodName)) ∈ lw_all := lw_g (lw_at lw_m12 193 rfl) rfl
theorem q2934 : (Jvm.Cond.privateMethod ({ cls := "BoxSpansModel", name := "nextLetting", desc := "(II)I" } : Jvm.MethodName)) ∈ lw_tbl := lw_at lw_m12 194 rfl
theorem q2935 : (Jvm.Cond.instanceMethod ({ cls := "BoxSpansModel", name := "nextLetting", desc := "(II)I" } : Jvm.MethodName)) ∈ lw_all := lw_g (lw_at lw_m12 195 rfl) rfl
theorem q2936 : (Jvm.Cond.code ({ cls := "BoxSpansModel", name := "nextLetting", desc := "(II)I" } : Jvm.MethodName) prog_16_method_77_code (6 : Nat) (Option.some Jvm.ClassFile.FieldType.int)) ∈ lw_all := lw_g (lw_at lw_m12 196 rfl) rfl
theorem q2937 : (Jvm.Cond.methodLink "BoxSpansModel" (223 : Nat) ({ cls := "BoxSpansModel", name := "writes", desc := "(I)V" } : Jvm.MethodName)) ∈ lw_all := lw_g (lw_at lw_m12 197 rfl) rfl
theorem q2938 : (Jvm.Cond.privateMethod ({ cls := "BoxSpansModel", name := "writes", desc := "(I)V" } : Jvm.MethodName)) ∈ lw_tbl := lw_at lw_m12 198 rfl
theorem q2939 : (Jvm.Cond.instanceMethod ({ cls := "BoxSpansModel", name := "writes", desc := "(I)V" } : Jvm.MethodName)) ∈ lw_all := lw_g (lw_at lw_m12 199 rfl) rfl
theorem q2940 : (Jvm.Cond.code ({ cls := "BoxSpansModel", name := "writes", desc := "(I)V" } : Jvm.MethodName) prog_16_method_75_code (2 : Nat) (Option.none : Option Jvm.ClassFile.FieldType)) ∈ lw_all := lw_g (lw_at lw_m12 200 rfl) rfl
theorem q2941 : (Jvm.Cond.methodLink "BoxSpansModel" (219 : Nat) ({ cls := "BoxSpansModel", name := "number", desc := "(I)V" } : Jvm.MethodName)) ∈ lw_all := lw_g (lw_at lw_m12 201 rfl) rfl
theorem q2942 : (Jvm.Cond.privateMethod ({ cls := "BoxSpansModel", name := "number", desc := "(I)V" } : Jvm.MethodName)) ∈ lw_tbl := lw_at lw_m12 202 rfl
theorem q2943 : (Jvm.Cond.instanceMethod ({ cls := "BoxSpansModel", name := "number", desc := "(I)V" } : Jvm.MethodName)) ∈ lw_all := lw_g (lw_at lw_m12 203 rfl) rfl
theorem q2944 : (Jvm.Cond.code ({ cls := "BoxSpansModel", name := "number", desc := "(I)V" } : Jvm.MethodName) prog_16_method_76_code (2 : Nat) (Option.none : Option Jvm.ClassFile.FieldType)) ∈ lw_all := lw_g (lw_at lw_m12 204 rfl) rfl
theorem q2946 : (Jvm.Cond.instanceMethod ({ cls := "BoxSpansModel", name := "show", desc := "(II)I" } : Jvm.MethodName)) ∈ lw_all := lw_g (lw_at lw_m12 206 rfl) rfl
theorem q2947 : (Jvm.Cond.selects "BoxSpansModel" ({ cls := "BoxSpansModel", name := "show", desc := "(II)I" } : Jvm.MethodName) ({ cls := "BoxSpansModel", name := "show", desc := "(II)I" } : Jvm.MethodName)) ∈ lw_all := lw_g (lw_at lw_m12 207 rfl) rfl
theorem q2948 : (Jvm.Cond.code ({ cls := "BoxSpansModel", name := "show", desc := "(II)I" } : Jvm.MethodName) prog_16_method_79_code (5 : Nat) (Option.some Jvm.ClassFile.FieldType.int)) ∈ lw_all := lw_g (lw_at lw_m12 208 rfl) rfl
theorem q2950 : (Jvm.Cond.instanceMethod ({ cls := "BoxSpansModel", name := "written", desc := "(I)C" } : Jvm.MethodName)) ∈ lw_all := lw_g (lw_at lw_m12 210 rfl) rfl
theorem q2951 : (Jvm.Cond.selects "BoxSpansModel" ({ cls := "BoxSpansModel", name := "written", desc := "(I)C" } : Jvm.MethodName) ({ cls := "BoxSpansModel", name := "written", desc := "(I)C" } : Jvm.MethodName)) ∈ lw_all := lw_g (lw_at lw_m12 211 rfl) rfl
theorem q2952 : (Jvm.Cond.code ({ cls := "BoxSpansModel", name := "written", desc := "(I)C" } : Jvm.MethodName) prog_16_method_80_code (2 : Nat) (Option.some Jvm.ClassFile.FieldType.char)) ∈ lw_all := lw_g (lw_at lw_m12 212 rfl) rfl
theorem q2954 : (Jvm.Cond.instanceMethod ({ cls := "BoxSpansModel", name := "account", desc := "(I)I" } : Jvm.MethodName)) ∈ lw_all := lw_g (lw_at lw_m12 214 rfl) rfl
theorem q2955 : (Jvm.Cond.selects "BoxSpansModel" ({ cls := "BoxSpansModel", name := "account", desc := "(I)I" } : Jvm.MethodName) ({ cls := "BoxSpansModel", name := "account", desc := "(I)I" } : Jvm.MethodName)) ∈ lw_all := lw_g (lw_at lw_m12 215 rfl) rfl
theorem q2956 : (Jvm.Cond.code ({ cls := "BoxSpansModel", name := "account", desc := "(I)I" } : Jvm.MethodName) prog_16_method_84_code (2 : Nat) (Option.some Jvm.ClassFile.FieldType.int)) ∈ lw_all := lw_g (lw_at lw_m12 216 rfl) rfl
theorem q2957 : (Jvm.Cond.methodLink "BoxSpansModel" (229 : Nat) ({ cls := "BoxSpansModel", name := "allLettings", desc := "()I" } : Jvm.MethodName)) ∈ lw_all := lw_g (lw_at lw_m12 217 rfl) rfl
theorem q2958 : (Jvm.Cond.privateMethod ({ cls := "BoxSpansModel", name := "allLettings", desc := "()I" } : Jvm.MethodName)) ∈ lw_tbl := lw_at lw_m12 218 rfl
theorem q2959 : (Jvm.Cond.instanceMethod ({ cls := "BoxSpansModel", name := "allLettings", desc := "()I" } : Jvm.MethodName)) ∈ lw_all := lw_g (lw_at lw_m12 219 rfl) rfl
theorem q2960 : (Jvm.Cond.code ({ cls := "BoxSpansModel", name := "allLettings", desc := "()I" } : Jvm.MethodName) prog_16_method_83_code (3 : Nat) (Option.some Jvm.ClassFile.FieldType.int)) ∈ lw_all := lw_g (lw_at lw_m12 220 rfl) rfl
theorem q2961 : (Jvm.Cond.methodLink "BoxSpansModel" (232 : Nat) ({ cls := "BoxSpansModel", name := "allMinutes", desc := "()I" } : Jvm.MethodName)) ∈ lw_all := lw_g (lw_at lw_m12 221 rfl) rfl
theorem q2962 : (Jvm.Cond.privateMethod ({ cls := "BoxSpansModel", name := "allMinutes", desc := "()I" } : Jvm.MethodName)) ∈ lw_tbl := lw_at lw_m12 222 rfl
theorem q2963 : (Jvm.Cond.instanceMethod ({ cls := "BoxSpansModel", name := "allMinutes", desc := "()I" } : Jvm.MethodName)) ∈ lw_all := lw_g (lw_at lw_m12 223 rfl) rfl
theorem q2964 : (Jvm.Cond.code ({ cls := "BoxSpansModel", name := "allMinutes", desc := "()I" } : Jvm.MethodName) prog_16_method_81_code (3 : Nat) (Option.some Jvm.ClassFile.FieldType.int)) ∈ lw_all := lw_g (lw_at lw_m12 224 rfl) rfl
theorem q2965 : (Jvm.Cond.methodLink "BoxSpansModel" (235 : Nat) ({ cls := "BoxSpansModel", name := "allCoins", desc := "()I" } : Jvm.MethodName)) ∈ lw_all := lw_g (lw_at lw_m12 225 rfl) rfl
theorem q2966 : (Jvm.Cond.privateMethod ({ cls := "BoxSpansModel", name := "allCoins", desc := "()I" } : Jvm.MethodName)) ∈ lw_tbl := lw_at lw_m12 226 rfl
theorem q2967 : (Jvm.Cond.instanceMethod ({ cls := "BoxSpansModel", name := "allCoins", desc := "()I" } : Jvm.MethodName)) ∈ lw_all := lw_g (lw_at lw_m12 227 rfl) rfl
theorem q2968 : (Jvm.Cond.code ({ cls := "BoxSpansModel", name := "allCoins", desc := "()I" } : Jvm.MethodName) prog_16_method_82_code (3 : Nat) (Option.some Jvm.ClassFile.FieldType.int)) ∈ lw_all := lw_g (lw_at lw_m12 228 rfl) rfl
theorem q2970 : (Jvm.Cond.instanceMethod ({ cls := "BoxSpansModel", name := "isOnce", desc := "()Z" } : Jvm.MethodName)) ∈ lw_all := lw_g (lw_at lw_m12 230 rfl) rfl
theorem q2971 : (Jvm.Cond.selects "BoxSpansModel" ({ cls := "BoxSpansModel", name := "isOnce", desc := "()Z" } : Jvm.MethodName) ({ cls := "BoxSpansModel", name := "isOnce", desc := "()Z" } : Jvm.MethodName)) ∈ lw_all := lw_g (lw_at lw_m12 231 rfl) rfl
theorem q2972 : (Jvm.Cond.code ({ cls := "BoxSpansModel", name := "isOnce", desc := "()Z" } : Jvm.MethodName) prog_16_method_85_code (5 : Nat) (Option.some Jvm.ClassFile.FieldType.boolean)) ∈ lw_all := lw_g (lw_at lw_m12 232 rfl) rfl
theorem q2974 : (Jvm.Cond.instanceMethod ({ cls := "BoxSpansModel", name := "meanLength", desc := "()D" } : Jvm.MethodName)) ∈ lw_all := lw_g (lw_at lw_m12 234 rfl) rfl
theorem q2975 : (Jvm.Cond.selects "BoxSpansModel" ({ cls := "BoxSpansModel", name := "meanLength", desc := "()D" } : Jvm.MethodName) ({ cls := "BoxSpansModel", name := "meanLength", desc := "()D" } : Jvm.MethodName)) ∈ lw_all := lw_g (lw_at lw_m12 235 rfl) rfl
theorem q2976 : (Jvm.Cond.code ({ cls := "BoxSpansModel", name := "meanLength", desc := "()D" } : Jvm.MethodName) prog_16_method_86_code (2 : Nat) (Option.some Jvm.ClassFile.FieldType.double)) ∈ lw_all := lw_g (lw_at lw_m12 236 rfl) rfl
theorem q2978 : (Jvm.Cond.instanceMethod ({ cls := "BoxSpansModel", name := "letShare", desc := "(I)F" } : Jvm.MethodName)) ∈ lw_all := lw_g (lw_at lw_m12 238 rfl) rfl
theorem q2979 : (Jvm.Cond.selects "BoxSpansModel" ({ cls := "BoxSpansModel", name := "letShare", desc := "(I)F" } : Jvm.MethodName) ({ cls := "BoxSpansModel", name := "letShare", desc := "(I)F" } : Jvm.MethodName)) ∈ lw_all := lw_g (lw_at lw_m12 239 rfl) rfl
theorem q2980 : (Jvm.Cond.code ({ cls := "BoxSpansModel", name := "letShare", desc := "(I)F" } : Jvm.MethodName) prog_16_method_87_code (2 : Nat) (Option.some Jvm.ClassFile.FieldType.float)) ∈ lw_all := lw_g (lw_at lw_m13 0 rfl) rfl
theorem q2981 : (Jvm.Cond.constantFloat "BoxSpansModel" (241 : Nat) (1142292480 : UInt32)) ∈ lw_all := lw_g (lw_at lw_m13 1 rfl) rfl
theorem q2983 : (Jvm.Cond.instanceMethod ({ cls := "BoxSpansModel", name := "type", desc := "(C)I" } : Jvm.MethodName)) ∈ lw_all := lw_g (lw_at lw_m13 3 rfl) rfl
theorem q2984 : (Jvm.Cond.selects "BoxSpansModel" ({ cls := "BoxSpansModel", name := "type", desc := "(C)I" } : Jvm.MethodName) ({ cls := "BoxSpansModel", name := "type", desc := "(C)I" } : Jvm.MethodName)) ∈ lw_all := lw_g (lw_at lw_m13 4 rfl) rfl
theorem q2985 : (Jvm.Cond.code ({ cls := "BoxSpansModel", name := "type", desc := "(C)I" } : Jvm.MethodName) prog_16_method_88_code (2 : Nat) (Option.some Jvm.ClassFile.FieldType.int)) ∈ lw_all := lw_g (lw_at lw_m13 5 rfl) rfl
theorem q2987 : (Jvm.Cond.instanceMethod ({ cls := "BoxSpansModel", name := "read", desc := "()I" } : Jvm.MethodName)) ∈ lw_all := lw_g (lw_at lw_m13 7 rfl) rfl
theorem q2988 : (Jvm.Cond.selects "BoxSpansModel" ({ cls := "BoxSpansModel", name := "read", desc := "()I" } : Jvm.MethodName) ({ cls := "BoxSpansModel", name := "read", desc := "()I" } : Jvm.MethodName)) ∈ lw_all := lw_g (lw_at lw_m13 8 rfl) rfl
theorem q2989 : (Jvm.Cond.code ({ cls := "BoxSpansModel", name := "read", desc := "()I" } : Jvm.MethodName) prog_16_method_101_code (5 : Nat) (Option.some Jvm.ClassFile.FieldType.int)) ∈ lw_all := lw_g (lw_at lw_m13 9 rfl) rfl
theorem q2990 : (Jvm.Cond.methodLink "BoxSpansModel" (303 : Nat) ({ cls := "BoxSpansModel", name := "isText", desc := "()Z" } : Jvm.MethodName)) ∈ lw_all := lw_g (lw_at lw_m13 10 rfl) rfl
theorem q2991 : (Jvm.Cond.privateMethod ({ cls := "BoxSpansModel", name := "isText", desc := "()Z" } : Jvm.MethodName)) ∈ lw_tbl := lw_at lw_m13 11 rfl
theorem q2992 : (Jvm.Cond.instanceMethod ({ cls := "BoxSpansModel", name := "isText", desc := "()Z" } : Jvm.MethodName)) ∈ lw_all := lw_g (lw_at lw_m13 12 rfl) rfl
theorem q2993 : (Jvm.Cond.code ({ cls := "BoxSpansModel", name := "isText", desc := "()Z" } : Jvm.MethodName) prog_16_method_97_code (2 : Nat) (Option.some Jvm.ClassFile.FieldType.boolean)) ∈ lw_all := lw_g (lw_at lw_m13 13 rfl) rfl
theorem q2994 : (Jvm.Cond.methodLink "BoxSpansModel" (297 : Nat) ({ cls := "BoxSpansModel", name := "readsCommand", desc := "()Z" } : Jvm.MethodName)) ∈ lw_all := lw_g (lw_at lw_m13 14 rfl) rfl
theorem q2995 : (Jvm.Cond.privateMethod ({ cls := "BoxSpansModel", name := "readsCommand", desc := "()Z" } : Jvm.MethodName)) ∈ lw_tbl := lw_at lw_m13 15 rfl
theorem q2996 : (Jvm.Cond.instanceMethod ({ cls := "BoxSpansModel", name := "readsCommand", desc := "()Z" } : Jvm.MethodName)) ∈ lw_all := lw_g (lw_at lw_m13 16 rfl) rfl
theorem q2997 : (Jvm.Cond.code ({ cls := "BoxSpansModel", name := "readsCommand", desc := "()Z" } : Jvm.MethodName) prog_16_method_96_code (2 : Nat) (Option.some Jvm.ClassFile.FieldType.boolean)) ∈ lw_all := lw_g (lw_at lw_m13 17 rfl) rfl
theorem q2998 : (Jvm.Cond.methodLink "BoxSpansModel" (284 : Nat) ({ cls := "BoxSpansModel", name := "isWord", desc := "()Z" } : Jvm.MethodName)) ∈ lw_all := lw_g (lw_at lw_m13 18 rfl) rfl
theorem q2999 : (Jvm.Cond.privateMethod ({ cls := "BoxSpansModel", name := "isWord", desc := "()Z" } : Jvm.MethodName)) ∈ lw_tbl := lw_at lw_m13 19 rfl
theorem q3000 : (Jvm.Cond.instanceMethod ({ cls := "BoxSpansModel", name := "isWord", desc := "()Z" } : Jvm.MethodName)) ∈ lw_all := lw_g (lw_at lw_m13 20 rfl) rfl
theorem q3001 : (Jvm.Cond.code ({ cls := "BoxSpansModel", name := "isWord", desc := "()Z" } : Jvm.MethodName) prog_16_method_92_code (4 : Nat) (Option.some Jvm.ClassFile.FieldType.boolean)) ∈ lw_all := lw_g (lw_at lw_m13 21 rfl) rfl
theorem q3002 : (Jvm.Cond.methodLink "BoxSpansModel" (262 : Nat) ({ cls := "BoxSpansModel", name := "wordOf", desc := "(I)Ljava/lang/String;" } : Jvm.MethodName)) ∈ lw_all := lw_g (lw_at lw_m13 22 rfl) rfl
theorem q3003 : (Jvm.Cond.static ({ cls := "BoxSpansModel", name := "wordOf", desc := "(I)Ljava/lang/String;" } : Jvm.MethodName)) ∈ lw_all := lw_g (lw_at lw_m13 23 rfl) rfl
theorem q3004 : (Jvm.Cond.code ({ cls := "BoxSpansModel", name := "wordOf", desc := "(I)Ljava/lang/String;" } : Jvm.MethodName) prog_16_method_91_code (1 : Nat) (Option.some (Jvm.ClassFile.FieldType.object "java/lang/String"))) ∈ lw_all := lw_g (lw_at lw_m13 24 rfl) rfl
theorem q3005 : (Jvm.Cond.stringRef "BoxSpansModel" (248 : Nat) "let ") ∈ lw_tbl := lw_at lw_m13 25 rfl
theorem q3006 : (Jvm.Cond.stringRef "BoxSpansModel" (250 : Nat) "cancel ") ∈ lw_tbl := lw_at lw_m13 26 rfl
theorem q3007 : (Jvm.Cond.stringRef "BoxSpansModel" (252 : Nat) "move ") ∈ lw_tbl := lw_at lw_m13 27 rfl
theorem q3008 : (Jvm.Cond.stringRef "BoxSpansModel" (254 : Nat) "split ") ∈ lw_tbl := lw_at lw_m13 28 rfl
theorem q3009 : (Jvm.Cond.stringRef "BoxSpansModel" (256 : Nat) "wish ") ∈ lw_tbl := lw_at lw_m13 29 rfl
theorem q3010 : (Jvm.Cond.stringRef "BoxSpansModel" (258 : Nat) "drop ") ∈ lw_tbl := lw_at lw_m13 30 rfl
theorem q3011 : (Jvm.Cond.stringRef "BoxSpansModel" (260 : Nat) "allot") ∈ lw_tbl := lw_at lw_m13 31 rfl
theorem q3012 : (Jvm.Cond.methodLink "BoxSpansModel" (245 : Nat) ({ cls := "BoxSpansModel", name := "sign", desc := "()I" } : Jvm.MethodName)) ∈ lw_all := lw_g (lw_at lw_m13 32 rfl) rfl
theorem q3013 : (Jvm.Cond.privateMethod ({ cls := "BoxSpansModel", name := "sign", desc := "()I" } : Jvm.MethodName)) ∈ lw_tbl := lw_at lw_m13 33 rfl
theorem q3014 : (Jvm.Cond.instanceMethod ({ cls := "BoxSpansModel", name := "sign", desc := "()I" } : Jvm.MethodName)) ∈ lw_all := lw_g (lw_at lw_m13 34 rfl) rfl
theorem q3015 : (Jvm.Cond.code ({ cls := "BoxSpansModel", name := "sign", desc := "()I" } : Jvm.MethodName) prog_16_method_89_code (1 : Nat) (Option.some Jvm.ClassFile.FieldType.int)) ∈ lw_all := lw_g (lw_at lw_m13 35 rfl) rfl
theorem q3016 : (Jvm.Cond.methodLink "BoxSpansModel" (266 : Nat) ({ cls := "java/lang/String", name := "charAt", desc := "(I)C" } : Jvm.MethodName)) ∈ lw_all := lw_g (lw_at lw_m13 36 rfl) rfl
theorem q3017 : (Jvm.Cond.methodLink "BoxSpansModel" (272 : Nat) ({ cls := "java/lang/String", name := "length", desc := "()I" } : Jvm.MethodName)) ∈ lw_all := lw_g (lw_at lw_m13 37 rfl) rfl
theorem q3018 : (Jvm.Cond.methodLink "BoxSpansModel" (275 : Nat) ({ cls := "BoxSpansModel", name := "isSign", desc := "(I)Z" } : Jvm.MethodName)) ∈ lw_all := lw_g (lw_at lw_m13 38 rfl) rfl
theorem q3019 : (Jvm.Cond.privateMethod ({ cls := "BoxSpansModel", name := "isSign", desc := "(I)Z" } : Jvm.MethodName)) ∈ lw_tbl := lw_at lw_m13 39 rfl
theorem q3020 : (Jvm.Cond.instanceMethod ({ cls := "BoxSpansModel", name := "isSign", desc := "(I)Z" } : Jvm.MethodName)) ∈ lw_all := lw_g (lw_at lw_m13 40 rfl) rfl
theorem q3021 : (Jvm.Cond.code ({ cls := "BoxSpansModel", name := "isSign", desc := "(I)Z" } : Jvm.MethodName) prog_16_method_90_code (3 : Nat) (Option.some Jvm.ClassFile.FieldType.boolean)) ∈ lw_all := lw_g (lw_at lw_m13 41 rfl) rfl
theorem q3022 : (Jvm.Cond.methodLink "BoxSpansModel" (281 : Nat) ({ cls := "BoxSpansModel", name := "isNumber", desc := "(II)Z" } : Jvm.MethodName)) ∈ lw_all := lw_g (lw_at lw_m13 42 rfl) rfl
theorem q3023 : (Jvm.Cond.privateMethod ({ cls := "BoxSpansModel", name := "isNumber", desc := "(II)Z" } : Jvm.MethodName)) ∈ lw_tbl := lw_at lw_m13 43 rfl
theorem q3024 : (Jvm.Cond.instanceMethod ({ cls := "BoxSpansModel", name := "isNumber", desc := "(II)Z" } : Jvm.MethodName)) ∈ lw_all := lw_g (lw_at lw_m13 44 rfl) rfl
theorem q3025 : (Jvm.Cond.code ({ cls := "BoxSpansModel", name := "isNumber", desc := "(II)Z" } : Jvm.MethodName) prog_16_method_93_code (5 : Nat) (Option.some Jvm.ClassFile.FieldType.boolean)) ∈ lw_all := lw_g (lw_at lw_m13 45 rfl) rfl
theorem q3026 : (Jvm.Cond.methodLink "BoxSpansModel" (291 : Nat) ({ cls := "BoxSpansModel", name := "isSpan", desc := "(I)Z" } : Jvm.MethodName)) ∈ lw_all := lw_g (lw_at lw_m13 46 rfl) rfl
theorem q3027 : (Jvm.Cond.privateMethod ({ cls := "BoxSpansModel", name := "isSpan", desc := "(I)Z" } : Jvm.MethodName)) ∈ lw_tbl := lw_at lw_m13 47 rfl
theorem q3028 : (Jvm.Cond.instanceMethod ({ cls := "BoxSpansModel", name := "isSpan", desc := "(I)Z" } : Jvm.MethodName)) ∈ lw_all := lw_g (lw_at lw_m13 48 rfl) rfl
theorem q3029 : (Jvm.Cond.code ({ cls := "BoxSpansModel", name := "isSpan", desc := "(I)Z" } : Jvm.MethodName) prog_16_method_94_code (2 : Nat) (Option.some Jvm.ClassFile.FieldType.boolean)) ∈ lw_all := lw_g (lw_at lw_m13 49 rfl) rfl
theorem q3030 : (Jvm.Cond.methodLink "BoxSpansModel" (294 : Nat) ({ cls := "BoxSpansModel", name := "isMoved", desc := "(I)Z" } : Jvm.MethodName)) ∈ lw_all := lw_g (lw_at lw_m13 50 rfl) rfl
theorem q3031 : (Jvm.Cond.privateMethod ({ cls := "BoxSpansModel", name := "isMoved", desc := "(I)Z" } : Jvm.MethodName)) ∈ lw_tbl := lw_at lw_m13 51 rfl
theorem q3032 : (Jvm.Cond.instanceMethod ({ cls := "BoxSpansModel", name := "isMoved", desc := "(I)Z" } : Jvm.MethodName)) ∈ lw_all := lw_g (lw_at lw_m13 52 rfl) rfl
theorem q3033 : (Jvm.Cond.code ({ cls := "BoxSpansModel", name := "isMoved", desc := "(I)Z" } : Jvm.MethodName) prog_16_method_95_code (3 : Nat) (Option.some Jvm.ClassFile.FieldType.boolean)) ∈ lw_all := lw_g (lw_at lw_m13 53 rfl) rfl
theorem q3034 : (Jvm.Cond.methodLink "BoxSpansModel" (306 : Nat) ({ cls := "BoxSpansModel", name := "isSound", desc := "(I)Z" } : Jvm.MethodName)) ∈ lw_all := lw_g (lw_at lw_m13 54 rfl) rfl
theorem q3035 : (Jvm.Cond.privateMethod ({ cls := "BoxSpansModel", name := "isSound", desc := "(I)Z" } : Jvm.MethodName)) ∈ lw_tbl := lw_at lw_m13 55 rfl
theorem q3036 : (Jvm.Cond.instanceMethod ({ cls := "BoxSpansModel", name := "isSound", desc := "(I)Z" } : Jvm.MethodName)) ∈ lw_all := lw_g (lw_at lw_m13 56 rfl) rfl
theorem q3037 : (Jvm.Cond.code ({ cls := "BoxSpansModel", name := "isSound", desc := "(I)Z" } : Jvm.MethodName) prog_16_method_98_code (5 : Nat) (Option.some Jvm.ClassFile.FieldType.boolean)) ∈ lw_all := lw_g (lw_at lw_m13 57 rfl) rfl
theorem q3038 : (Jvm.Cond.methodLink "BoxSpansModel" (309 : Nat) ({ cls := "BoxSpansModel", name := "does", desc := "(I)I" } : Jvm.MethodName)) ∈ lw_all := lw_g (lw_at lw_m13 58 rfl) rfl
theorem q3039 : (Jvm.Cond.privateMethod ({ cls := "BoxSpansModel", name := "does", desc := "(I)I" } : Jvm.MethodName)) ∈ lw_tbl := lw_at lw_m13 59 rfl
theorem q3040 : (Jvm.Cond.instanceMethod ({ cls := "BoxSpansModel", name := "does", desc := "(I)I" } : Jvm.MethodName)) ∈ lw_all := lw_g (lw_at lw_m13 60 rfl) rfl
theorem q3041 : (Jvm.Cond.code ({ cls := "BoxSpansModel", name := "does", desc := "(I)I" } : Jvm.MethodName) prog_16_method_99_code (5 : Nat) (Option.some Jvm.ClassFile.FieldType.int)) ∈ lw_all := lw_g (lw_at lw_m13 61 rfl) rfl
theorem q3042 : (Jvm.Cond.methodLink "BoxSpansModel" (312 : Nat) ({ cls := "BoxSpansModel", name := "isBehind", desc := "(ZI)V" } : Jvm.MethodName)) ∈ lw_all := lw_g (lw_at lw_m13 62 rfl) rfl
theorem q3043 : (Jvm.Cond.privateMethod ({ cls := "BoxSpansModel", name := "isBehind", desc := "(ZI)V" } : Jvm.MethodName)) ∈ lw_tbl := lw_at lw_m13 63 rfl
theorem q3044 : (Jvm.Cond.instanceMethod ({ cls := "BoxSpansModel", name := "isBehind", desc := "(ZI)V" } : Jvm.MethodName)) ∈ lw_all := lw_g (lw_at lw_m13 64 rfl) rfl
theorem q3045 : (Jvm.Cond.code ({ cls := "BoxSpansModel", name := "isBehind", desc := "(ZI)V" } : Jvm.MethodName) prog_16_method_100_code (3 : Nat) (Option.none : Option Jvm.ClassFile.FieldType)) ∈ lw_all := lw_g (lw_at lw_m13 65 rfl) rfl
theorem q3047 : (Jvm.Cond.instanceMethod ({ cls := "BoxSpansModel", name := "errorPosition", desc := "()I" } : Jvm.MethodName)) ∈ lw_all := lw_g (lw_at lw_m13 67 rfl) rfl
theorem q3048 : (Jvm.Cond.selects "BoxSpansModel" ({ cls := "BoxSpansModel", name := "errorPosition", desc := "()I" } : Jvm.MethodName) ({ cls := "BoxSpansModel", name := "errorPosition", desc := "()I" } : Jvm.MethodName)) ∈ lw_all := lw_g (lw_at lw_m13 68 rfl) rfl
theorem q3049 : (Jvm.Cond.code ({ cls := "BoxSpansModel", name := "errorPosition", desc := "()I" } : Jvm.MethodName) prog_16_method_102_code (1 : Nat) (Option.some Jvm.ClassFile.FieldType.int)) ∈ lw_all := lw_g (lw_at lw_m13 69 rfl) rfl
theorem q3051 : (Jvm.Cond.instanceMethod ({ cls := "BoxSpansModel", name := "refusal", desc := "(ZZ)I" } : Jvm.MethodName)) ∈ lw_all := lw_g (lw_at lw_m13 71 rfl) rfl
theorem q3052 : (Jvm.Cond.selects "BoxSpansModel" ({ cls := "BoxSpansModel", name := "refusal", desc := "(ZZ)I" } : Jvm.MethodName) ({ cls := "BoxSpansModel", name := "refusal", desc := "(ZZ)I" } : Jvm.MethodName)) ∈ lw_all := lw_g (lw_at lw_m13 72 rfl) rfl
theorem q3053 : (Jvm.Cond.code ({ cls := "BoxSpansModel", name := "refusal", desc := "(ZZ)I" } : Jvm.MethodName) prog_16_method_103_code (3 : Nat) (Option.some Jvm.ClassFile.FieldType.int)) ∈ lw_all := lw_g (lw_at lw_m13 73 rfl) rfl
theorem q3055 : (Jvm.Cond.instanceMethod ({ cls := "BoxSpansModel", name := "undo", desc := "()I" } : Jvm.MethodName)) ∈ lw_all := lw_g (lw_at lw_m13 75 rfl) rfl
theorem q3056 : (Jvm.Cond.selects "BoxSpansModel" ({ cls := "BoxSpansModel", name := "undo", desc := "()I" } : Jvm.MethodName) ({ cls := "BoxSpansModel", name := "undo", desc := "()I" } : Jvm.MethodName)) ∈ lw_all := lw_g (lw_at lw_m13 76 rfl) rfl
theorem q3057 : (Jvm.Cond.code ({ cls := "BoxSpansModel", name := "undo", desc := "()I" } : Jvm.MethodName) prog_16_method_104_code (1 : Nat) (Option.some Jvm.ClassFile.FieldType.int)) ∈ lw_all := lw_g (lw_at lw_m13 77 rfl) rfl
theorem q3059 : (Jvm.Cond.instanceMethod ({ cls := "BoxSpansModel", name := "save", desc := "()I" } : Jvm.MethodName)) ∈ lw_all := lw_g (lw_at lw_m13 79 rfl) rfl
theorem q3060 : (Jvm.Cond.selects "BoxSpansModel" ({ cls := "BoxSpansModel", name := "save", desc := "()I" } : Jvm.MethodName) ({ cls := "BoxSpansModel", name := "save", desc := "()I" } : Jvm.MethodName)) ∈ lw_all := lw_g (lw_at lw_m13 80 rfl) rfl
theorem q3061 : (Jvm.Cond.code ({ cls := "BoxSpansModel", name := "save", desc := "()I" } : Jvm.MethodName) prog_16_method_105_code (1 : Nat) (Option.some Jvm.ClassFile.FieldType.int)) ∈ lw_all := lw_g (lw_at lw_m13 81 rfl) rfl
theorem q3063 : (Jvm.Cond.instanceMethod ({ cls := "BoxSpansModel", name := "restore", desc := "()I" } : Jvm.MethodName)) ∈ lw_all := lw_g (lw_at lw_m13 83 rfl) rfl
theorem q3064 : (Jvm.Cond.selects "BoxSpansModel" ({ cls := "BoxSpansModel", name := "restore", desc := "()I" } : Jvm.MethodName) ({ cls := "BoxSpansModel", name := "restore", desc := "()I" } : Jvm.MethodName)) ∈ lw_all := lw_g (lw_at lw_m13 84 rfl) rfl
theorem q3065 : (Jvm.Cond.code ({ cls := "BoxSpansModel", name := "restore", desc := "()I" } : Jvm.MethodName) prog_16_method_106_code (1 : Nat) (Option.some Jvm.ClassFile.FieldType.int)) ∈ lw_all := lw_g (lw_at lw_m13 85 rfl) rfl
theorem q3100 : (Jvm.Cond.castable "BoxSpansModel" "java/lang/Object") ∈ lw_tbl := lw_at lw_m13 120 rfl
theorem in_X3 : ∀ w ∈ wsX30, w ∈ lw_all := lw_in wsX30 [2600, 2602, 2604, 2606, 2608, 2610, 2612, 2614, 2616, 2618, 2620, 2622, 2624, 2626, 2628, 2630, 2632, 2634, 2636, 2638, 2640, 2642, 2644] (by decide +kernel) (by decide +kernel)
