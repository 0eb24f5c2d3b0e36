/-! BoxSpans$Refusal -/
set_option maxRecDepth 100000
def RX4 : String := "BoxSpans$Refusal"
def TX4 : u_T := fun k => match k with
  | 0 => ("java/lang/Throwable", "cause", "Ljava/lang/Throwable;", false)
  | 1 => ("java/lang/Throwable", "stackTrace", "[Ljava/lang/StackTraceElement;", false)
  | 2 => ("java/lang/Throwable", "suppressedExceptions", "Ljava/util/List;", false)
  | 3 => ("java/lang/Throwable", "detailMessage", "Ljava/lang/String;", false)
  | 4 => ("java/lang/Throwable", "backtrace", "Ljava/lang/Object;", false)
  | 5 => ("java/lang/Throwable", "depth", "I", false)
  | 6 => ("BoxSpans$Refusal", "reason", "I", true)
  | _ => ("BoxSpans$Refusal", "detail", "I", true)
def tyX4 : Nat → FieldType := fun k => match k with
  | 0 => .object "java/lang/Throwable"
  | 1 => .array (.object "java/lang/StackTraceElement")
  | 2 => .object "java/util/List"
  | 3 => .object "java/lang/String"
  | 4 => .object "java/lang/Object"
  | 5 => .int
  | 6 => .int
  | _ => .int
abbrev wsX40 : List Cond := u_ws RX4 TX4 8
theorem nmX4 : ∀ a, a < 8 → ∀ b, b < 8 → a ≠ b → (TX4 a).2.1 ≠ (TX4 b).2.1 := by decide +kernel
theorem tyX4_ok : ∀ k, k < 8 → parseFieldDescriptor (TX4 k).2.2.1 = some (tyX4 k) := by decide +kernel
abbrev cX4_init : ByteArray := prog_7_method_1_code
def yX4_init : MethodName := ⟨RX4, "<init>", "(IILBoxSpans$Refusal;)V"⟩
def dkwX4_init_0 : List UInt8 := [42, 1, 45, 183, 0, 1, 42, 27, 181, 0, 7, 42, 28, 181, 0, 13, 177]
abbrev dktX4_init_0 : List UInt8 := dkwX4_init_0 ++ []
theorem dksX4_init_0 : cX4_init.data.toList.drop 0 = dktX4_init_0 := by decide +kernel
theorem dX4_init_0 : decode cX4_init 0 = .ok (.aload_n 0, 1) := dk_42 (dk_at dksX4_init_0 0 rfl rfl)
theorem dX4_init_1 : decode cX4_init 1 = .ok (.aconst_null, 1) := dk_1 (dk_at dksX4_init_0 1 rfl rfl)
theorem dX4_init_2 : decode cX4_init 2 = .ok (.aload_n 3, 1) := dk_45 (dk_at dksX4_init_0 2 rfl rfl)
theorem dX4_init_3 : decode cX4_init 3 = .ok (.invokespecial 1, 3) := dk_183 0 1 (dk_at dksX4_init_0 3 rfl rfl)
theorem dX4_init_6 : decode cX4_init 6 = .ok (.aload_n 0, 1) := dk_42 (dk_at dksX4_init_0 6 rfl rfl)
theorem dX4_init_7 : decode cX4_init 7 = .ok (.iload_n 1, 1) := dk_27 (dk_at dksX4_init_0 7 rfl rfl)
theorem dX4_init_8 : decode cX4_init 8 = .ok (.putfield 7, 3) := dk_181 0 7 (dk_at dksX4_init_0 8 rfl rfl)
theorem dX4_init_11 : decode cX4_init 11 = .ok (.aload_n 0, 1) := dk_42 (dk_at dksX4_init_0 11 rfl rfl)
theorem dX4_init_12 : decode cX4_init 12 = .ok (.iload_n 2, 1) := dk_28 (dk_at dksX4_init_0 12 rfl rfl)
theorem dX4_init_13 : decode cX4_init 13 = .ok (.putfield 13, 3) := dk_181 0 13 (dk_at dksX4_init_0 13 rfl rfl)
theorem dX4_init_16 : decode cX4_init 16 = .ok (.return_, 1) := dk_177 (dk_at dksX4_init_0 16 rfl rfl)
abbrev cX4_number : ByteArray := prog_7_method_2_code
def yX4_number : MethodName := ⟨RX4, "number", "(Z)I"⟩
def dkwX4_number_0 : List UInt8 := [27, 153, 0, 10, 42, 180, 0, 13, 167, 0, 7, 42, 180, 0, 7, 172]
abbrev dktX4_number_0 : List UInt8 := dkwX4_number_0 ++ []
theorem dksX4_number_0 : cX4_number.data.toList.drop 0 = dktX4_number_0 := by decide +kernel
theorem dX4_number_0 : decode cX4_number 0 = .ok (.iload_n 1, 1) := dk_27 (dk_at dksX4_number_0 0 rfl rfl)
theorem dX4_number_1 : decode cX4_number 1 = .ok (.ifCond .eq 10, 3) := dk_153 0 10 (dk_at dksX4_number_0 1 rfl rfl)
theorem dX4_number_4 : decode cX4_number 4 = .ok (.aload_n 0, 1) := dk_42 (dk_at dksX4_number_0 4 rfl rfl)
theorem dX4_number_5 : decode cX4_number 5 = .ok (.getfield 13, 3) := dk_180 0 13 (dk_at dksX4_number_0 5 rfl rfl)
theorem dX4_number_8 : decode cX4_number 8 = .ok (.goto 7, 3) := dk_167 0 7 (dk_at dksX4_number_0 8 rfl rfl)
theorem dX4_number_11 : decode cX4_number 11 = .ok (.aload_n 0, 1) := dk_42 (dk_at dksX4_number_0 11 rfl rfl)
theorem dX4_number_12 : decode cX4_number 12 = .ok (.getfield 7, 3) := dk_180 0 7 (dk_at dksX4_number_0 12 rfl rfl)
theorem dX4_number_15 : decode cX4_number 15 = .ok (.ireturn, 1) := dk_172 (dk_at dksX4_number_0 15 rfl rfl)
theorem q117 : (Jvm.Cond.initialized "BoxSpans$Refusal") ∈ lw_all := lw_g (lw_at lw_m1 17 rfl) rfl
theorem q391 : (Jvm.Cond.selects "BoxSpans$Refusal" ({ cls := "java/lang/Throwable", name := "fillInStackTrace", desc := "()Ljava/lang/Throwable;" } : Jvm.MethodName) ({ cls := "java/lang/Throwable", name := "fillInStackTrace", desc := "()Ljava/lang/Throwable;" } : Jvm.MethodName)) ∈ lw_all := lw_g (lw_at lw_m2 51 rfl) rfl
theorem q887 : (Jvm.Cond.selects "BoxSpans$Refusal" ({ cls := "java/lang/Throwable", name := "toString", desc := "()Ljava/lang/String;" } : Jvm.MethodName) ({ cls := "java/lang/Throwable", name := "toString", desc := "()Ljava/lang/String;" } : Jvm.MethodName)) ∈ lw_all := lw_g (lw_at lw_m4 67 rfl) rfl
theorem q905 : (Jvm.Cond.selects "BoxSpans$Refusal" ({ cls := "java/lang/Object", name := "getClass", desc := "()Ljava/lang/Class;" } : Jvm.MethodName) ({ cls := "java/lang/Object", name := "getClass", desc := "()Ljava/lang/Class;" } : Jvm.MethodName)) ∈ lw_all := lw_g (lw_at lw_m4 85 rfl) rfl
theorem q936 : (Jvm.Cond.selects "BoxSpans$Refusal" ({ cls := "java/lang/Throwable", name := "getLocalizedMessage", desc := "()Ljava/lang/String;" } : Jvm.MethodName) ({ cls := "java/lang/Throwable", name := "getLocalizedMessage", desc := "()Ljava/lang/String;" } : Jvm.MethodName)) ∈ lw_all := lw_g (lw_at lw_m4 116 rfl) rfl
theorem q950 : (Jvm.Cond.selects "BoxSpans$Refusal" ({ cls := "java/lang/Throwable", name := "getMessage", desc := "()Ljava/lang/String;" } : Jvm.MethodName) ({ cls := "java/lang/Throwable", name := "getMessage", desc := "()Ljava/lang/String;" } : Jvm.MethodName)) ∈ lw_all := lw_g (lw_at lw_m4 130 rfl) rfl
theorem q1153 : (Jvm.Cond.instantiable "BoxSpans$Refusal" (8 : Nat)) ∈ lw_all := lw_g (lw_at lw_m5 93 rfl) rfl
theorem q1154 : (Jvm.Cond.castable "BoxSpans$Refusal" "BoxSpans$Refusal") ∈ lw_tbl := lw_at lw_m5 94 rfl
theorem q1155 : (Jvm.Cond.selects "BoxSpans$Refusal" ({ cls := "java/lang/Throwable", name := "fillInStackTrace", desc := "(I)Ljava/lang/Throwable;" } : Jvm.MethodName) ({ cls := "java/lang/Throwable", name := "fillInStackTrace", desc := "(I)Ljava/lang/Throwable;" } : Jvm.MethodName)) ∈ lw_all := lw_g (lw_at lw_m5 95 rfl) rfl
theorem q1156 : (Jvm.Cond.lays "BoxSpans$Refusal" "java/lang/Throwable" "cause" "Ljava/lang/Throwable;") ∈ lw_all := lw_g (lw_at lw_m5 96 rfl) rfl
theorem q1157 : (Jvm.Cond.lays "BoxSpans$Refusal" "java/lang/Throwable" "stackTrace" "[Ljava/lang/StackTraceElement;") ∈ lw_all := lw_g (lw_at lw_m5 97 rfl) rfl
theorem q1158 : (Jvm.Cond.lays "BoxSpans$Refusal" "java/lang/Throwable" "suppressedExceptions" "Ljava/util/List;") ∈ lw_all := lw_g (lw_at lw_m5 98 rfl) rfl
theorem q1159 : (Jvm.Cond.lays "BoxSpans$Refusal" "java/lang/Throwable" "detailMessage" "Ljava/lang/String;") ∈ lw_all := lw_g (lw_at lw_m5 99 rfl) rfl
theorem q1160 : (Jvm.Cond.lays "BoxSpans$Refusal" "java/lang/Throwable" "backtrace" "Ljava/lang/Object;") ∈ lw_all := lw_g (lw_at lw_m5 100 rfl) rfl
theorem q1162 : (Jvm.Cond.instanceMethod ({ cls := "BoxSpans$Refusal", name := "<init>", desc := "(IILBoxSpans$Refusal;)V" } : Jvm.MethodName)) ∈ lw_all := lw_g (lw_at lw_m5 102 rfl) rfl
theorem q1163 : (Jvm.Cond.code ({ cls := "BoxSpans$Refusal", name := "<init>", desc := "(IILBoxSpans$Refusal;)V" } : Jvm.MethodName) prog_7_method_1_code (4 : Nat) (Option.none : Option Jvm.ClassFile.FieldType)) ∈ lw_all := lw_g (lw_at lw_m5 103 rfl) rfl
theorem q1164 : (Jvm.Cond.methodLink "BoxSpans$Refusal" (1 : Nat) ({ cls := "java/lang/Exception", name := "<init>", desc := "(Ljava/lang/String;Ljava/lang/Throwable;)V" } : Jvm.MethodName)) ∈ lw_all := lw_g (lw_at lw_m5 104 rfl) rfl
theorem q1170 : (Jvm.Cond.fieldLink "BoxSpans$Refusal" (7 : Nat) "BoxSpans$Refusal" "reason" "I") ∈ lw_all := lw_g (lw_at lw_m5 110 rfl) rfl
theorem q1171 : (Jvm.Cond.fieldLink "BoxSpans$Refusal" (13 : Nat) "BoxSpans$Refusal" "detail" "I") ∈ lw_all := lw_g (lw_at lw_m5 111 rfl) rfl
theorem q1172 : (Jvm.Cond.laysFinal "BoxSpans$Refusal" "BoxSpans$Refusal" "reason" "I") ∈ lw_all := lw_g (lw_at lw_m5 112 rfl) rfl
theorem q1173 : (Jvm.Cond.soleField "BoxSpans$Refusal" "reason") ∈ lw_all := lw_g (lw_at lw_m5 113 rfl) rfl
theorem q1174 : (Jvm.Cond.laysFinal "BoxSpans$Refusal" "BoxSpans$Refusal" "detail" "I") ∈ lw_all := lw_g (lw_at lw_m5 114 rfl) rfl
theorem q1175 : (Jvm.Cond.soleField "BoxSpans$Refusal" "detail") ∈ lw_all := lw_g (lw_at lw_m5 115 rfl) rfl
theorem q1176 : (Jvm.Cond.lays "BoxSpans$Refusal" "java/lang/Throwable" "depth" "I") ∈ lw_all := lw_g (lw_at lw_m5 116 rfl) rfl
theorem q1177 : (Jvm.Cond.superclass "BoxSpans$Refusal" "java/lang/Exception") ∈ lw_all := lw_g (lw_at lw_m5 117 rfl) rfl
theorem q2067 : (Jvm.Cond.selects "BoxSpans$Refusal" ({ cls := "java/lang/Object", name := "toString", desc := "()Ljava/lang/String;" } : Jvm.MethodName) ({ cls := "java/lang/Throwable", name := "toString", desc := "()Ljava/lang/String;" } : Jvm.MethodName)) ∈ lw_all := lw_g (lw_at lw_m9 47 rfl) rfl
theorem q2441 : (Jvm.Cond.instanceMethod ({ cls := "BoxSpans$Refusal", name := "number", desc := "(Z)I" } : Jvm.MethodName)) ∈ lw_all := lw_g (lw_at lw_m10 181 rfl) rfl
theorem q2442 : (Jvm.Cond.selects "BoxSpans$Refusal" ({ cls := "BoxSpans$Refusal", name := "number", desc := "(Z)I" } : Jvm.MethodName) ({ cls := "BoxSpans$Refusal", name := "number", desc := "(Z)I" } : Jvm.MethodName)) ∈ lw_all := lw_g (lw_at lw_m10 182 rfl) rfl
theorem q2443 : (Jvm.Cond.code ({ cls := "BoxSpans$Refusal", name := "number", desc := "(Z)I" } : Jvm.MethodName) prog_7_method_2_code (2 : Nat) (Option.some Jvm.ClassFile.FieldType.int)) ∈ lw_all := lw_g (lw_at lw_m10 183 rfl) rfl
theorem q2445 : (Jvm.Cond.sameMethod "BoxSpans$Refusal" "java/lang/Throwable" "getCause" "()Ljava/lang/Throwable;") ∈ lw_all := lw_g (lw_at lw_m10 185 rfl) rfl
theorem q2447 : (Jvm.Cond.selects "BoxSpans$Refusal" ({ cls := "BoxSpans$Refusal", name := "getCause", desc := "()Ljava/lang/Throwable;" } : Jvm.MethodName) ({ cls := "java/lang/Throwable", name := "getCause", desc := "()Ljava/lang/Throwable;" } : Jvm.MethodName)) ∈ lw_all := lw_g (lw_at lw_m10 187 rfl) rfl
theorem q3102 : (Jvm.Cond.castable "BoxSpans$Refusal" "java/lang/Object") ∈ lw_tbl := lw_at lw_m13 122 rfl
theorem in_X4 : ∀ w ∈ wsX40, w ∈ lw_all := lw_in wsX40 [1156, 1157, 1158, 1159, 1160, 1176, 1172, 1174] (by decide +kernel) (by decide +kernel)
/-! BoxSpans$Span -/
set_option maxRecDepth 100000
def RX5 : String := "BoxSpans$Span"
def TX5 : u_T := fun k => match k with
  | 0 => ("BoxSpans$Span", "from", "I", true)
  | _ => ("BoxSpans$Span", "to", "I", true)
def tyX5 : Nat → FieldType := fun k => match k with
  | 0 => .int
  | _ => .int
abbrev wsX50 : List Cond := u_ws RX5 TX5 2
theorem nmX5 : ∀ a, a < 2 → ∀ b, b < 2 → a ≠ b → (TX5 a).2.1 ≠ (TX5 b).2.1 := by decide +kernel
theorem tyX5_ok : ∀ k, k < 2 → parseFieldDescriptor (TX5 k).2.2.1 = some (tyX5 k) := by decide +kernel
abbrev cX5_init : ByteArray := prog_10_method_1_code
def yX5_init : MethodName := ⟨RX5, "<init>", "(II)V"⟩
def dkwX5_init_0 : List UInt8 := [42, 183, 0, 3, 42, 27, 181, 0, 9, 42, 28, 181, 0, 15, 177]
abbrev dktX5_init_0 : List UInt8 := dkwX5_init_0 ++ []
theorem dksX5_init_0 : cX5_init.data.toList.drop 0 = dktX5_init_0 := by decide +kernel
theorem dX5_init_0 : decode cX5_init 0 = .ok (.aload_n 0, 1) := dk_42 (dk_at dksX5_init_0 0 rfl rfl)
theorem dX5_init_1 : decode cX5_init 1 = .ok (.invokespecial 3, 3) := dk_183 0 3 (dk_at dksX5_init_0 1 rfl rfl)
theorem dX5_init_4 : decode cX5_init 4 = .ok (.aload_n 0, 1) := dk_42 (dk_at dksX5_init_0 4 rfl rfl)
theorem dX5_init_5 : decode cX5_init 5 = .ok (.iload_n 1, 1) := dk_27 (dk_at dksX5_init_0 5 rfl rfl)
theorem dX5_init_6 : decode cX5_init 6 = .ok (.putfield 9, 3) := dk_181 0 9 (dk_at dksX5_init_0 6 rfl rfl)
theorem dX5_init_9 : decode cX5_init 9 = .ok (.aload_n 0, 1) := dk_42 (dk_at dksX5_init_0 9 rfl rfl)
theorem dX5_init_10 : decode cX5_init 10 = .ok (.iload_n 2, 1) := dk_28 (dk_at dksX5_init_0 10 rfl rfl)
theorem dX5_init_11 : decode cX5_init 11 = .ok (.putfield 15, 3) := dk_181 0 15 (dk_at dksX5_init_0 11 rfl rfl)
theorem dX5_init_14 : decode cX5_init 14 = .ok (.return_, 1) := dk_177 (dk_at dksX5_init_0 14 rfl rfl)
abbrev cX5_to : ByteArray := prog_10_method_3_code
def yX5_to : MethodName := ⟨RX5, "to", "()I"⟩
theorem dX5_to_0 : decode cX5_to 0 = .ok (.aload_n 0, 1) := by decide +kernel
theorem dX5_to_1 : decode cX5_to 1 = .ok (.getfield 15, 3) := by decide +kernel
theorem dX5_to_4 : decode cX5_to 4 = .ok (.ireturn, 1) := by decide +kernel
abbrev cX5_from : ByteArray := prog_10_method_2_code
def yX5_from : MethodName := ⟨RX5, "from", "()I"⟩
theorem dX5_from_0 : decode cX5_from 0 = .ok (.aload_n 0, 1) := by decide +kernel
theorem dX5_from_1 : decode cX5_from 1 = .ok (.getfield 9, 3) := by decide +kernel
theorem dX5_from_4 : decode cX5_from 4 = .ok (.ireturn, 1) := by decide +kernel
abbrev cX5_later : ByteArray := prog_10_method_5_code
def yX5_later : MethodName := ⟨RX5, "later", "(I)LBoxSpans$Span;"⟩
def dkwX5_later_0 : List UInt8 := [187, 0, 10, 89, 42, 180, 0, 9, 27, 96, 42, 180, 0, 15, 27, 96, 183, 0, 18, 176]
abbrev dktX5_later_0 : List UInt8 := dkwX5_later_0 ++ []
theorem dksX5_later_0 : cX5_later.data.toList.drop 0 = dktX5_later_0 := by decide +kernel
theorem dX5_later_0 : decode cX5_later 0 = .ok (.new 10, 3) := dk_187 0 10 (dk_at dksX5_later_0 0 rfl rfl)
theorem dX5_later_3 : decode cX5_later 3 = .ok (.dup, 1) := dk_89 (dk_at dksX5_later_0 3 rfl rfl)
theorem dX5_later_4 : decode cX5_later 4 = .ok (.aload_n 0, 1) := dk_42 (dk_at dksX5_later_0 4 rfl rfl)
theorem dX5_later_5 : decode cX5_later 5 = .ok (.getfield 9, 3) := dk_180 0 9 (dk_at dksX5_later_0 5 rfl rfl)
theorem dX5_later_8 : decode cX5_later 8 = .ok (.iload_n 1, 1) := dk_27 (dk_at dksX5_later_0 8 rfl rfl)
theorem dX5_later_9 : decode cX5_later 9 = .ok (.iadd, 1) := dk_96 (dk_at dksX5_later_0 9 rfl rfl)
theorem dX5_later_10 : decode cX5_later 10 = .ok (.aload_n 0, 1) := dk_42 (dk_at dksX5_later_0 10 rfl rfl)
theorem dX5_later_11 : decode cX5_later 11 = .ok (.getfield 15, 3) := dk_180 0 15 (dk_at dksX5_later_0 11 rfl rfl)
theorem dX5_later_14 : decode cX5_later 14 = .ok (.iload_n 1, 1) := dk_27 (dk_at dksX5_later_0 14 rfl rfl)
theorem dX5_later_15 : decode cX5_later 15 = .ok (.iadd, 1) := dk_96 (dk_at dksX5_later_0 15 rfl rfl)
theorem dX5_later_16 : decode cX5_later 16 = .ok (.invokespecial 18, 3) := dk_183 0 18 (dk_at dksX5_later_0 16 rfl rfl)
theorem dX5_later_19 : decode cX5_later 19 = .ok (.areturn, 1) := dk_176 (dk_at dksX5_later_0 19 rfl rfl)
abbrev cX5_outside : ByteArray := prog_10_method_7_code
def yX5_outside : MethodName := ⟨RX5, "outside", "()I"⟩
def dkwX5_outside_1 : List UInt8 := [184, 0, 26, 172]
abbrev dktX5_outside_1 : List UInt8 := dkwX5_outside_1 ++ []
def dkwX5_outside_0 : List UInt8 := [42, 182, 0, 37, 3, 42, 180, 0, 9, 116, 184, 0, 34, 42, 180, 0, 15, 17, 2, 88, 100, 184, 0, 34]
abbrev dktX5_outside_0 : List UInt8 := dkwX5_outside_0 ++ dktX5_outside_1
theorem dksX5_outside_0 : cX5_outside.data.toList.drop 0 = dktX5_outside_0 := by decide +kernel
theorem dksX5_outside_1 : cX5_outside.data.toList.drop 24 = dktX5_outside_1 := dk_seg dksX5_outside_0 24 rfl rfl
theorem dX5_outside_0 : decode cX5_outside 0 = .ok (.aload_n 0, 1) := dk_42 (dk_at dksX5_outside_0 0 rfl rfl)
theorem dX5_outside_1 : decode cX5_outside 1 = .ok (.invokevirtual 37, 3) := dk_182 0 37 (dk_at dksX5_outside_0 1 rfl rfl)
theorem dX5_outside_4 : decode cX5_outside 4 = .ok (.iconst 0, 1) := dk_3 (dk_at dksX5_outside_0 4 rfl rfl)
theorem dX5_outside_5 : decode cX5_outside 5 = .ok (.aload_n 0, 1) := dk_42 (dk_at dksX5_outside_0 5 rfl rfl)
theorem dX5_outside_6 : decode cX5_outside 6 = .ok (.getfield 9, 3) := dk_180 0 9 (dk_at dksX5_outside_0 6 rfl rfl)
theorem dX5_outside_9 : decode cX5_outside 9 = .ok (.ineg, 1) := dk_116 (dk_at dksX5_outside_0 9 rfl rfl)
theorem dX5_outside_10 : decode cX5_outside 10 = .ok (.invokestatic 34, 3) := dk_184 0 34 (dk_at dksX5_outside_0 10 rfl rfl)
theorem dX5_outside_13 : decode cX5_outside 13 = .ok (.aload_n 0, 1) := dk_42 (dk_at dksX5_outside_0 13 rfl rfl)
theorem dX5_outside_14 : decode cX5_outside 14 = .ok (.getfield 15, 3) := dk_180 0 15 (dk_at dksX5_outside_0 14 rfl rfl)
theorem dX5_outside_17 : decode cX5_outside 17 = .ok (.sipush 600, 3) := dk_17 2 88 (dk_at dksX5_outside_0 17 rfl rfl)
theorem dX5_outside_20 : decode cX5_outside 20 = .ok (.isub, 1) := dk_100 (dk_at dksX5_outside_0 20 rfl rfl)
theorem dX5_outside_21 : decode cX5_outside 21 = .ok (.invokestatic 34, 3) := dk_184 0 34 (dk_at dksX5_outside_0 21 rfl rfl)
theorem dX5_outside_24 : decode cX5_outside 24 = .ok (.invokestatic 26, 3) := dk_184 0 26 (dk_at dksX5_outside_1 0 rfl rfl)
theorem dX5_outside_27 : decode cX5_outside 27 = .ok (.ireturn, 1) := dk_172 (dk_at dksX5_outside_1 3 rfl rfl)
abbrev cX5_with : ByteArray := prog_10_method_6_code
def yX5_with : MethodName := ⟨RX5, "with", "(LBoxSpans$Timed;)LBoxSpans$Span;"⟩
def dkwX5_with_1 : List UInt8 := [185, 0, 32, 1, 0, 184, 0, 34, 183, 0, 18, 176]
abbrev dktX5_with_1 : List UInt8 := dkwX5_with_1 ++ []
def dkwX5_with_0 : List UInt8 := [187, 0, 10, 89, 42, 180, 0, 9, 43, 185, 0, 21, 1, 0, 184, 0, 26, 42, 180, 0, 15, 43]
abbrev dktX5_with_0 : List UInt8 := dkwX5_with_0 ++ dktX5_with_1
theorem dksX5_with_0 : cX5_with.data.toList.drop 0 = dktX5_with_0 := by decide +kernel
theorem dksX5_with_1 : cX5_with.data.toList.drop 22 = dktX5_with_1 := dk_seg dksX5_with_0 22 rfl rfl
theorem dX5_with_0 : decode cX5_with 0 = .ok (.new 10, 3) := dk_187 0 10 (dk_at dksX5_with_0 0 rfl rfl)
theorem dX5_with_3 : decode cX5_with 3 = .ok (.dup, 1) := dk_89 (dk_at dksX5_with_0 3 rfl rfl)
theorem dX5_with_4 : decode cX5_with 4 = .ok (.aload_n 0, 1) := dk_42 (dk_at dksX5_with_0 4 rfl rfl)
theorem dX5_with_5 : decode cX5_with 5 = .ok (.getfield 9, 3) := dk_180 0 9 (dk_at dksX5_with_0 5 rfl rfl)
theorem dX5_with_8 : decode cX5_with 8 = .ok (.aload_n 1, 1) := dk_43 (dk_at dksX5_with_0 8 rfl rfl)
theorem dX5_with_9 : decode cX5_with 9 = .ok (.invokeinterface 21 1, 5) := by decide +kernel
theorem dX5_with_14 : decode cX5_with 14 = .ok (.invokestatic 26, 3) := dk_184 0 26 (dk_at dksX5_with_0 14 rfl rfl)
theorem dX5_with_17 : decode cX5_with 17 = .ok (.aload_n 0, 1) := dk_42 (dk_at dksX5_with_0 17 rfl rfl)
theorem dX5_with_18 : decode cX5_with 18 = .ok (.getfield 15, 3) := dk_180 0 15 (dk_at dksX5_with_0 18 rfl rfl)
theorem dX5_with_21 : decode cX5_with 21 = .ok (.aload_n 1, 1) := dk_43 (dk_at dksX5_with_0 21 rfl rfl)
theorem dX5_with_22 : decode cX5_with 22 = .ok (.invokeinterface 32 1, 5) := by decide +kernel
theorem dX5_with_27 : decode cX5_with 27 = .ok (.invokestatic 34, 3) := dk_184 0 34 (dk_at dksX5_with_1 5 rfl rfl)
theorem dX5_with_30 : decode cX5_with 30 = .ok (.invokespecial 18, 3) := dk_183 0 18 (dk_at dksX5_with_1 8 rfl rfl)
theorem dX5_with_33 : decode cX5_with 33 = .ok (.areturn, 1) := dk_176 (dk_at dksX5_with_1 11 rfl rfl)
abbrev cX5_end : ByteArray := prog_10_method_4_code
def yX5_end : MethodName := ⟨RX5, "end", "(Z)I"⟩
def dkwX5_end_0 : List UInt8 := [27, 153, 0, 10, 42, 180, 0, 15, 167, 0, 7, 42, 180, 0, 9, 172]
abbrev dktX5_end_0 : List UInt8 := dkwX5_end_0 ++ []
theorem dksX5_end_0 : cX5_end.data.toList.drop 0 = dktX5_end_0 := by decide +kernel
theorem dX5_end_0 : decode cX5_end 0 = .ok (.iload_n 1, 1) := dk_27 (dk_at dksX5_end_0 0 rfl rfl)
theorem dX5_end_1 : decode cX5_end 1 = .ok (.ifCond .eq 10, 3) := dk_153 0 10 (dk_at dksX5_end_0 1 rfl rfl)
theorem dX5_end_4 : decode cX5_end 4 = .ok (.aload_n 0, 1) := dk_42 (dk_at dksX5_end_0 4 rfl rfl)
theorem dX5_end_5 : decode cX5_end 5 = .ok (.getfield 15, 3) := dk_180 0 15 (dk_at dksX5_end_0 5 rfl rfl)
theorem dX5_end_8 : decode cX5_end 8 = .ok (.goto 7, 3) := dk_167 0 7 (dk_at dksX5_end_0 8 rfl rfl)
theorem dX5_end_11 : decode cX5_end 11 = .ok (.aload_n 0, 1) := dk_42 (dk_at dksX5_end_0 11 rfl rfl)
theorem dX5_end_12 : decode cX5_end 12 = .ok (.getfield 9, 3) := dk_180 0 9 (dk_at dksX5_end_0 12 rfl rfl)
theorem dX5_end_15 : decode cX5_end 15 = .ok (.ireturn, 1) := dk_172 (dk_at dksX5_end_0 15 rfl rfl)
theorem q135 : (Jvm.Cond.initialized "BoxSpans$Span") ∈ lw_all := lw_g (lw_at lw_m1 35 rfl) rfl
theorem q808 : (Jvm.Cond.instantiable "BoxSpans$Span" (2 : Nat)) ∈ lw_all := lw_g (lw_at lw_m3 228 rfl) rfl
theorem q819 : (Jvm.Cond.instanceMethod ({ cls := "BoxSpans$Span", name := "<init>", desc := "(II)V" } : Jvm.MethodName)) ∈ lw_all := lw_g (lw_at lw_m3 239 rfl) rfl
theorem q820 : (Jvm.Cond.code ({ cls := "BoxSpans$Span", name := "<init>", desc := "(II)V" } : Jvm.MethodName) prog_10_method_1_code (3 : Nat) (Option.none : Option Jvm.ClassFile.FieldType)) ∈ lw_all := lw_g (lw_at lw_m4 0 rfl) rfl
theorem q821 : (Jvm.Cond.methodLink "BoxSpans$Span" (3 : Nat) ({ cls := "java/lang/Object", name := "<init>", desc := "()V" } : Jvm.MethodName)) ∈ lw_all := lw_g (lw_at lw_m4 1 rfl) rfl
theorem q822 : (Jvm.Cond.fieldLink "BoxSpans$Span" (9 : Nat) "BoxSpans$Span" "from" "I") ∈ lw_all := lw_g (lw_at lw_m4 2 rfl) rfl
theorem q823 : (Jvm.Cond.fieldLink "BoxSpans$Span" (15 : Nat) "BoxSpans$Span" "to" "I") ∈ lw_all := lw_g (lw_at lw_m4 3 rfl) rfl
theorem q824 : (Jvm.Cond.laysFinal "BoxSpans$Span" "BoxSpans$Span" "from" "I") ∈ lw_all := lw_g (lw_at lw_m4 4 rfl) rfl
theorem q825 : (Jvm.Cond.soleField "BoxSpans$Span" "from") ∈ lw_all := lw_g (lw_at lw_m4 5 rfl) rfl
theorem q826 : (Jvm.Cond.laysFinal "BoxSpans$Span" "BoxSpans$Span" "to" "I") ∈ lw_all := lw_g (lw_at lw_m4 6 rfl) rfl
theorem q827 : (Jvm.Cond.soleField "BoxSpans$Span" "to") ∈ lw_all := lw_g (lw_at lw_m4 7 rfl) rfl
theorem q828 : (Jvm.Cond.superclass "BoxSpans$Span" "java/lang/Object") ∈ lw_all := lw_g (lw_at lw_m4 8 rfl) rfl
theorem q830 : (Jvm.Cond.instanceMethod ({ cls := "BoxSpans$Span", name := "to", desc := "()I" } : Jvm.MethodName)) ∈ lw_all := lw_g (lw_at lw_m4 10 rfl) rfl
theorem q831 : (Jvm.Cond.selects "BoxSpans$Span" ({ cls := "BoxSpans$Span", name := "to", desc := "()I" } : Jvm.MethodName) ({ cls := "BoxSpans$Span", name := "to", desc := "()I" } : Jvm.MethodName)) ∈ lw_all := lw_g (lw_at lw_m4 11 rfl) rfl
theorem q832 : (Jvm.Cond.code ({ cls := "BoxSpans$Span", name := "to", desc := "()I" } : Jvm.MethodName) prog_10_method_3_code (1 : Nat) (Option.some Jvm.ClassFile.FieldType.int)) ∈ lw_all := lw_g (lw_at lw_m4 12 rfl) rfl
theorem q908 : (Jvm.Cond.selects "BoxSpans$Span" ({ cls := "java/lang/Object", name := "getClass", desc := "()Ljava/lang/Class;" } : Jvm.MethodName) ({ cls := "java/lang/Object", name := "getClass", desc := "()Ljava/lang/Class;" } : Jvm.MethodName)) ∈ lw_all := lw_g (lw_at lw_m4 88 rfl) rfl
theorem q1011 : (Jvm.Cond.instanceMethod ({ cls := "BoxSpans$Span", name := "from", desc := "()I" } : Jvm.MethodName)) ∈ lw_all := lw_g (lw_at lw_m4 191 rfl) rfl
theorem q1012 : (Jvm.Cond.selects "BoxSpans$Span" ({ cls := "BoxSpans$Span", name := "from", desc := "()I" } : Jvm.MethodName) ({ cls := "BoxSpans$Span", name := "from", desc := "()I" } : Jvm.MethodName)) ∈ lw_all := lw_g (lw_at lw_m4 192 rfl) rfl
theorem q1013 : (Jvm.Cond.code ({ cls := "BoxSpans$Span", name := "from", desc := "()I" } : Jvm.MethodName) prog_10_method_2_code (1 : Nat) (Option.some Jvm.ClassFile.FieldType.int)) ∈ lw_all := lw_g (lw_at lw_m4 193 rfl) rfl
theorem q1014 : (Jvm.Cond.castable "BoxSpans$Span" "BoxSpans$Timed") ∈ lw_tbl := lw_at lw_m4 194 rfl
theorem q1015 : (Jvm.Cond.selects "BoxSpans$Span" ({ cls := "BoxSpans$Timed", name := "from", desc := "()I" } : Jvm.MethodName) ({ cls := "BoxSpans$Span", name := "from", desc := "()I" } : Jvm.MethodName)) ∈ lw_all := lw_g (lw_at lw_m4 195 rfl) rfl
theorem q1016 : (Jvm.Cond.unhidden "BoxSpans$Span" "from" "()I") ∈ lw_tbl := lw_at lw_m4 196 rfl
theorem q1017 : (Jvm.Cond.publicMethod ({ cls := "BoxSpans$Span", name := "from", desc := "()I" } : Jvm.MethodName)) ∈ lw_tbl := lw_at lw_m4 197 rfl
theorem q1035 : (Jvm.Cond.selects "BoxSpans$Span" ({ cls := "BoxSpans$Timed", name := "to", desc := "()I" } : Jvm.MethodName) ({ cls := "BoxSpans$Span", name := "to", desc := "()I" } : Jvm.MethodName)) ∈ lw_all := lw_g (lw_at lw_m4 215 rfl) rfl
theorem q1036 : (Jvm.Cond.unhidden "BoxSpans$Span" "to" "()I") ∈ lw_tbl := lw_at lw_m4 216 rfl
theorem q1037 : (Jvm.Cond.publicMethod ({ cls := "BoxSpans$Span", name := "to", desc := "()I" } : Jvm.MethodName)) ∈ lw_tbl := lw_at lw_m4 217 rfl
theorem q1500 : (Jvm.Cond.instanceMethod ({ cls := "BoxSpans$Span", name := "later", desc := "(I)LBoxSpans$Span;" } : Jvm.MethodName)) ∈ lw_all := lw_g (lw_at lw_m6 200 rfl) rfl
theorem q1501 : (Jvm.Cond.selects "BoxSpans$Span" ({ cls := "BoxSpans$Span", name := "later", desc := "(I)LBoxSpans$Span;" } : Jvm.MethodName) ({ cls := "BoxSpans$Span", name := "later", desc := "(I)LBoxSpans$Span;" } : Jvm.MethodName)) ∈ lw_all := lw_g (lw_at lw_m6 201 rfl) rfl
theorem q1502 : (Jvm.Cond.code ({ cls := "BoxSpans$Span", name := "later", desc := "(I)LBoxSpans$Span;" } : Jvm.MethodName) prog_10_method_5_code (2 : Nat) (Option.some (Jvm.ClassFile.FieldType.object "BoxSpans$Span"))) ∈ lw_all := lw_g (lw_at lw_m6 202 rfl) rfl
theorem q1503 : (Jvm.Cond.classLink "BoxSpans$Span" (10 : Nat) "BoxSpans$Span") ∈ lw_all := lw_g (lw_at lw_m6 203 rfl) rfl
theorem q1504 : (Jvm.Cond.methodLink "BoxSpans$Span" (18 : Nat) ({ cls := "BoxSpans$Span", name := "<init>", desc := "(II)V" } : Jvm.MethodName)) ∈ lw_all := lw_g (lw_at lw_m6 204 rfl) rfl
theorem q1506 : (Jvm.Cond.instanceMethod ({ cls := "BoxSpans$Span", name := "outside", desc := "()I" } : Jvm.MethodName)) ∈ lw_all := lw_g (lw_at lw_m6 206 rfl) rfl
theorem q1507 : (Jvm.Cond.selects "BoxSpans$Span" ({ cls := "BoxSpans$Span", name := "outside", desc := "()I" } : Jvm.MethodName) ({ cls := "BoxSpans$Span", name := "outside", desc := "()I" } : Jvm.MethodName)) ∈ lw_all := lw_g (lw_at lw_m6 207 rfl) rfl
theorem q1508 : (Jvm.Cond.code ({ cls := "BoxSpans$Span", name := "outside", desc := "()I" } : Jvm.MethodName) prog_10_method_7_code (1 : Nat) (Option.some Jvm.ClassFile.FieldType.int)) ∈ lw_all := lw_g (lw_at lw_m6 208 rfl) rfl
theorem q1509 : (Jvm.Cond.unhidden "BoxSpans$Span" "length" "()I") ∈ lw_tbl := lw_at lw_m6 209 rfl
theorem q1510 : (Jvm.Cond.methodLink "BoxSpans$Span" (34 : Nat) ({ cls := "java/lang/Math", name := "max", desc := "(II)I" } : Jvm.MethodName)) ∈ lw_all := lw_g (lw_at lw_m6 210 rfl) rfl
theorem q1511 : (Jvm.Cond.methodLink "BoxSpans$Span" (26 : Nat) ({ cls := "java/lang/Math", name := "min", desc := "(II)I" } : Jvm.MethodName)) ∈ lw_all := lw_g (lw_at lw_m6 211 rfl) rfl
theorem q1560 : (Jvm.Cond.instanceMethod ({ cls := "BoxSpans$Span", name := "with", desc := "(LBoxSpans$Timed;)LBoxSpans$Span;" } : Jvm.MethodName)) ∈ lw_all := lw_g (lw_at lw_m7 20 rfl) rfl
theorem q1561 : (Jvm.Cond.selects "BoxSpans$Span" ({ cls := "BoxSpans$Span", name := "with", desc := "(LBoxSpans$Timed;)LBoxSpans$Span;" } : Jvm.MethodName) ({ cls := "BoxSpans$Span", name := "with", desc := "(LBoxSpans$Timed;)LBoxSpans$Span;" } : Jvm.MethodName)) ∈ lw_all := lw_g (lw_at lw_m7 21 rfl) rfl
theorem q1562 : (Jvm.Cond.code ({ cls := "BoxSpans$Span", name := "with", desc := "(LBoxSpans$Timed;)LBoxSpans$Span;" } : Jvm.MethodName) prog_10_method_6_code (2 : Nat) (Option.some (Jvm.ClassFile.FieldType.object "BoxSpans$Span"))) ∈ lw_all := lw_g (lw_at lw_m7 22 rfl) rfl
theorem q1563 : (Jvm.Cond.interfaceEntry "BoxSpans$Span" (21 : Nat)) ∈ lw_tbl := lw_at lw_m7 23 rfl
theorem q1564 : (Jvm.Cond.methodLink "BoxSpans$Span" (21 : Nat) ({ cls := "BoxSpans$Timed", name := "from", desc := "()I" } : Jvm.MethodName)) ∈ lw_all := lw_g (lw_at lw_m7 24 rfl) rfl
theorem q1565 : (Jvm.Cond.interfaceEntry "BoxSpans$Span" (32 : Nat)) ∈ lw_tbl := lw_at lw_m7 25 rfl
theorem q1566 : (Jvm.Cond.methodLink "BoxSpans$Span" (32 : Nat) ({ cls := "BoxSpans$Timed", name := "to", desc := "()I" } : Jvm.MethodName)) ∈ lw_all := lw_g (lw_at lw_m7 26 rfl) rfl
theorem q1855 : (Jvm.Cond.instanceMethod ({ cls := "BoxSpans$Span", name := "end", desc := "(Z)I" } : Jvm.MethodName)) ∈ lw_all := lw_g (lw_at lw_m8 75 rfl) rfl
theorem q1856 : (Jvm.Cond.selects "BoxSpans$Span" ({ cls := "BoxSpans$Span", name := "end", desc := "(Z)I" } : Jvm.MethodName) ({ cls := "BoxSpans$Span", name := "end", desc := "(Z)I" } : Jvm.MethodName)) ∈ lw_all := lw_g (lw_at lw_m8 76 rfl) rfl
theorem q1857 : (Jvm.Cond.code ({ cls := "BoxSpans$Span", name := "end", desc := "(Z)I" } : Jvm.MethodName) prog_10_method_4_code (2 : Nat) (Option.some Jvm.ClassFile.FieldType.int)) ∈ lw_all := lw_g (lw_at lw_m8 77 rfl) rfl
theorem q2070 : (Jvm.Cond.selects "BoxSpans$Span" ({ cls := "java/lang/Object", name := "toString", desc := "()Ljava/lang/String;" } : Jvm.MethodName) ({ cls := "java/lang/Object", name := "toString", desc := "()Ljava/lang/String;" } : Jvm.MethodName)) ∈ lw_all := lw_g (lw_at lw_m9 50 rfl) rfl
theorem q3115 : (Jvm.Cond.castable "BoxSpans$Span" "java/lang/Object") ∈ lw_tbl := lw_at lw_m13 135 rfl
theorem in_X5 : ∀ w ∈ wsX50, w ∈ lw_all := lw_in wsX50 [824, 826] (by decide +kernel) (by decide +kernel)
/-! BoxSpans$Letting -/
set_option maxRecDepth 100000
def RX6 : String := "BoxSpans$Letting"
def TX6 : u_T := fun k => match k with
  | 0 => ("BoxSpans$Letting", "box", "I", true)
  | 1 => ("BoxSpans$Letting", "party", "I", true)
  | 2 => ("BoxSpans$Letting", "span", "LBoxSpans$Span;", false)
  | _ => ("BoxSpans$Letting", "isOver", "Z", false)
def tyX6 : Nat → FieldType := fun k => match k with
  | 0 => .int
  | 1 => .int
  | 2 => .object "BoxSpans$Span"
  | _ => .boolean
abbrev wsX60 : List Cond := u_ws RX6 TX6 4
theorem nmX6 : ∀ a, a < 4 → ∀ b, b < 4 → a ≠ b → (TX6 a).2.1 ≠ (TX6 b).2.1 := by decide +kernel
theorem tyX6_ok : ∀ k, k < 4 → parseFieldDescriptor (TX6 k).2.2.1 = some (tyX6 k) := by decide +kernel
abbrev cX6_from : ByteArray := prog_4_method_8_code
def yX6_from : MethodName := ⟨RX6, "from", "()I"⟩
def dkwX6_from_0 : List UInt8 := [42, 180, 0, 16, 182, 0, 27, 172]
abbrev dktX6_from_0 : List UInt8 := dkwX6_from_0 ++ []
theorem dksX6_from_0 : cX6_from.data.toList.drop 0 = dktX6_from_0 := by decide +kernel
theorem dX6_from_0 : decode cX6_from 0 = .ok (.aload_n 0, 1) := dk_42 (dk_at dksX6_from_0 0 rfl rfl)
theorem dX6_from_1 : decode cX6_from 1 = .ok (.getfield 16, 3) := dk_180 0 16 (dk_at dksX6_from_0 1 rfl rfl)
theorem dX6_from_4 : decode cX6_from 4 = .ok (.invokevirtual 27, 3) := dk_182 0 27 (dk_at dksX6_from_0 4 rfl rfl)
theorem dX6_from_7 : decode cX6_from 7 = .ok (.ireturn, 1) := dk_172 (dk_at dksX6_from_0 7 rfl rfl)
abbrev cX6_to : ByteArray := prog_4_method_9_code
def yX6_to : MethodName := ⟨RX6, "to", "()I"⟩
def dkwX6_to_0 : List UInt8 := [42, 180, 0, 16, 182, 0, 33, 172]
abbrev dktX6_to_0 : List UInt8 := dkwX6_to_0 ++ []
theorem dksX6_to_0 : cX6_to.data.toList.drop 0 = dktX6_to_0 := by decide +kernel
theorem dX6_to_0 : decode cX6_to 0 = .ok (.aload_n 0, 1) := dk_42 (dk_at dksX6_to_0 0 rfl rfl)
theorem dX6_to_1 : decode cX6_to 1 = .ok (.getfield 16, 3) := dk_180 0 16 (dk_at dksX6_to_0 1 rfl rfl)
theorem dX6_to_4 : decode cX6_to 4 = .ok (.invokevirtual 33, 3) := dk_182 0 33 (dk_at dksX6_to_0 4 rfl rfl)
theorem dX6_to_7 : decode cX6_to 7 = .ok (.ireturn, 1) := dk_172 (dk_at dksX6_to_0 7 rfl rfl)
abbrev cX6_isIn : ByteArray := prog_4_method_7_code
def yX6_isIn : MethodName := ⟨RX6, "isIn", "(I)Z"⟩
def dkwX6_isIn_0 : List UInt8 := [42, 180, 0, 23, 154, 0, 15, 42, 180, 0, 7, 27, 160, 0, 7, 4, 167, 0, 4, 3, 172]
abbrev dktX6_isIn_0 : List UInt8 := dkwX6_isIn_0 ++ []
theorem dksX6_isIn_0 : cX6_isIn.data.toList.drop 0 = dktX6_isIn_0 := by decide +kernel
theorem dX6_isIn_0 : decode cX6_isIn 0 = .ok (.aload_n 0, 1) := dk_42 (dk_at dksX6_isIn_0 0 rfl rfl)
theorem dX6_isIn_1 : decode cX6_isIn 1 = .ok (.getfield 23, 3) := dk_180 0 23 (dk_at dksX6_isIn_0 1 rfl rfl)
theorem dX6_isIn_4 : decode cX6_isIn 4 = .ok (.ifCond .ne 15, 3) := dk_154 0 15 (dk_at dksX6_isIn_0 4 rfl rfl)
theorem dX6_isIn_7 : decode cX6_isIn 7 = .ok (.aload_n 0, 1) := dk_42 (dk_at dksX6_isIn_0 7 rfl rfl)
theorem dX6_isIn_8 : decode cX6_isIn 8 = .ok (.getfield 7, 3) := dk_180 0 7 (dk_at dksX6_isIn_0 8 rfl rfl)
theorem dX6_isIn_11 : decode cX6_isIn 11 = .ok (.iload_n 1, 1) := dk_27 (dk_at dksX6_isIn_0 11 rfl rfl)
theorem dX6_isIn_12 : decode cX6_isIn 12 = .ok (.if_icmp .ne 7, 3) := dk_160 0 7 (dk_at dksX6_isIn_0 12 rfl rfl)
theorem dX6_isIn_15 : decode cX6_isIn 15 = .ok (.iconst 1, 1) := dk_4 (dk_at dksX6_isIn_0 15 rfl rfl)
theorem dX6_isIn_16 : decode cX6_isIn 16 = .ok (.goto 4, 3) := dk_167 0 4 (dk_at dksX6_isIn_0 16 rfl rfl)
theorem dX6_isIn_19 : decode cX6_isIn 19 = .ok (.iconst 0, 1) := dk_3 (dk_at dksX6_isIn_0 19 rfl rfl)
theorem dX6_isIn_20 : decode cX6_isIn 20 = .ok (.ireturn, 1) := dk_172 (dk_at dksX6_isIn_0 20 rfl rfl)
abbrev cX6_coins : ByteArray := prog_4_method_10_code
def yX6_coins : MethodName := ⟨RX6, "coins", "()I"⟩
def dkwX6_coins_0 : List UInt8 := [42, 180, 0, 23, 153, 0, 7, 3, 167, 0, 12, 42, 182, 0, 36, 42, 180, 0, 13, 104, 172]
abbrev dktX6_coins_0 : List UInt8 := dkwX6_coins_0 ++ []
theorem dksX6_coins_0 : cX6_coins.data.toList.drop 0 = dktX6_coins_0 := by decide +kernel
theorem dX6_coins_0 : decode cX6_coins 0 = .ok (.aload_n 0, 1) := dk_42 (dk_at dksX6_coins_0 0 rfl rfl)
theorem dX6_coins_1 : decode cX6_coins 1 = .ok (.getfield 23, 3) := dk_180 0 23 (dk_at dksX6_coins_0 1 rfl rfl)
theorem dX6_coins_4 : decode cX6_coins 4 = .ok (.ifCond .eq 7, 3) := dk_153 0 7 (dk_at dksX6_coins_0 4 rfl rfl)
theorem dX6_coins_7 : decode cX6_coins 7 = .ok (.iconst 0, 1) := dk_3 (dk_at dksX6_coins_0 7 rfl rfl)
theorem dX6_coins_8 : decode cX6_coins 8 = .ok (.goto 12, 3) := dk_167 0 12 (dk_at dksX6_coins_0 8 rfl rfl)
theorem dX6_coins_11 : decode cX6_coins 11 = .ok (.aload_n 0, 1) := dk_42 (dk_at dksX6_coins_0 11 rfl rfl)
theorem dX6_coins_12 : decode cX6_coins 12 = .ok (.invokevirtual 36, 3) := dk_182 0 36 (dk_at dksX6_coins_0 12 rfl rfl)
theorem dX6_coins_15 : decode cX6_coins 15 = .ok (.aload_n 0, 1) := dk_42 (dk_at dksX6_coins_0 15 rfl rfl)
theorem dX6_coins_16 : decode cX6_coins 16 = .ok (.getfield 13, 3) := dk_180 0 13 (dk_at dksX6_coins_0 16 rfl rfl)
theorem dX6_coins_19 : decode cX6_coins 19 = .ok (.imul, 1) := dk_104 (dk_at dksX6_coins_0 19 rfl rfl)
theorem dX6_coins_20 : decode cX6_coins 20 = .ok (.ireturn, 1) := dk_172 (dk_at dksX6_coins_0 20 rfl rfl)
abbrev cX6_copy : ByteArray := prog_4_method_2_code
def yX6_copy : MethodName := ⟨RX6, "copy", "()LBoxSpans$Letting;"⟩
def dkwX6_copy_1 : List UInt8 := [180, 0, 23, 181, 0, 23, 43, 176]
abbrev dktX6_copy_1 : List UInt8 := dkwX6_copy_1 ++ []
def dkwX6_copy_0 : List UInt8 := [187, 0, 8, 89, 42, 180, 0, 7, 42, 180, 0, 13, 42, 180, 0, 16, 183, 0, 20, 76, 43, 42]
abbrev dktX6_copy_0 : List UInt8 := dkwX6_copy_0 ++ dktX6_copy_1
theorem dksX6_copy_0 : cX6_copy.data.toList.drop 0 = dktX6_copy_0 := by decide +kernel
theorem dksX6_copy_1 : cX6_copy.data.toList.drop 22 = dktX6_copy_1 := dk_seg dksX6_copy_0 22 rfl rfl
theorem dX6_copy_0 : decode cX6_copy 0 = .ok (.new 8, 3) := dk_187 0 8 (dk_at dksX6_copy_0 0 rfl rfl)
theorem dX6_copy_3 : decode cX6_copy 3 = .ok (.dup, 1) := dk_89 (dk_at dksX6_copy_0 3 rfl rfl)
theorem dX6_copy_4 : decode cX6_copy 4 = .ok (.aload_n 0, 1) := dk_42 (dk_at dksX6_copy_0 4 rfl rfl)
theorem dX6_copy_5 : decode cX6_copy 5 = .ok (.getfield 7, 3) := dk_180 0 7 (dk_at dksX6_copy_0 5 rfl rfl)
theorem dX6_copy_8 : decode cX6_copy 8 = .ok (.aload_n 0, 1) := dk_42 (dk_at dksX6_copy_0 8 rfl rfl)
theorem dX6_copy_9 : decode cX6_copy 9 = .ok (.getfield 13, 3) := dk_180 0 13 (dk_at dksX6_copy_0 9 rfl rfl)
theorem dX6_copy_12 : decode cX6_copy 12 = .ok (.aload_n 0, 1) := dk_42 (dk_at dksX6_copy_0 12 rfl rfl)
theorem dX6_copy_13 : decode cX6_copy 13 = .ok (.getfield 16, 3) := dk_180 0 16 (dk_at dksX6_copy_0 13 rfl rfl)
theorem dX6_copy_16 : decode cX6_copy 16 = .ok (.invokespecial 20, 3) := dk_183 0 20 (dk_at dksX6_copy_0 16 rfl rfl)
theorem dX6_copy_19 : decode cX6_copy 19 = .ok (.astore_n 1, 1) := dk_76 (dk_at dksX6_copy_0 19 rfl rfl)
theorem dX6_copy_20 : decode cX6_copy 20 = .ok (.aload_n 1, 1) := dk_43 (dk_at dksX6_copy_0 20 rfl rfl)
theorem dX6_copy_21 : decode cX6_copy 21 = .ok (.aload_n 0, 1) := dk_42 (dk_at dksX6_copy_0 21 rfl rfl)
theorem dX6_copy_22 : decode cX6_copy 22 = .ok (.getfield 23, 3) := dk_180 0 23 (dk_at dksX6_copy_1 0 rfl rfl)
theorem dX6_copy_25 : decode cX6_copy 25 = .ok (.putfield 23, 3) := dk_181 0 23 (dk_at dksX6_copy_1 3 rfl rfl)
theorem dX6_copy_28 : decode cX6_copy 28 = .ok (.aload_n 1, 1) := dk_43 (dk_at dksX6_copy_1 6 rfl rfl)
theorem dX6_copy_29 : decode cX6_copy 29 = .ok (.areturn, 1) := dk_176 (dk_at dksX6_copy_1 7 rfl rfl)
abbrev cX6_init : ByteArray := prog_4_method_1_code
def yX6_init : MethodName := ⟨RX6, "<init>", "(IILBoxSpans$Span;)V"⟩
def dkwX6_init_0 : List UInt8 := [42, 183, 0, 1, 42, 27, 181, 0, 7, 42, 28, 181, 0, 13, 42, 45, 181, 0, 16, 177]
abbrev dktX6_init_0 : List UInt8 := dkwX6_init_0 ++ []
theorem dksX6_init_0 : cX6_init.data.toList.drop 0 = dktX6_init_0 := by decide +kernel
theorem dX6_init_0 : decode cX6_init 0 = .ok (.aload_n 0, 1) := dk_42 (dk_at dksX6_init_0 0 rfl rfl)
theorem dX6_init_1 : decode cX6_init 1 = .ok (.invokespecial 1, 3) := dk_183 0 1 (dk_at dksX6_init_0 1 rfl rfl)
theorem dX6_init_4 : decode cX6_init 4 = .ok (.aload_n 0, 1) := dk_42 (dk_at dksX6_init_0 4 rfl rfl)
theorem dX6_init_5 : decode cX6_init 5 = .ok (.iload_n 1, 1) := dk_27 (dk_at dksX6_init_0 5 rfl rfl)
theorem dX6_init_6 : decode cX6_init 6 = .ok (.putfield 7, 3) := dk_181 0 7 (dk_at dksX6_init_0 6 rfl rfl)
theorem dX6_init_9 : decode cX6_init 9 = .ok (.aload_n 0, 1) := dk_42 (dk_at dksX6_init_0 9 rfl rfl)
theorem dX6_init_10 : decode cX6_init 10 = .ok (.iload_n 2, 1) := dk_28 (dk_at dksX6_init_0 10 rfl rfl)
theorem dX6_init_11 : decode cX6_init 11 = .ok (.putfield 13, 3) := dk_181 0 13 (dk_at dksX6_init_0 11 rfl rfl)
theorem dX6_init_14 : decode cX6_init 14 = .ok (.aload_n 0, 1) := dk_42 (dk_at dksX6_init_0 14 rfl rfl)
theorem dX6_init_15 : decode cX6_init 15 = .ok (.aload_n 3, 1) := dk_45 (dk_at dksX6_init_0 15 rfl rfl)
theorem dX6_init_16 : decode cX6_init 16 = .ok (.putfield 16, 3) := dk_181 0 16 (dk_at dksX6_init_0 16 rfl rfl)
theorem dX6_init_19 : decode cX6_init 19 = .ok (.return_, 1) := dk_177 (dk_at dksX6_init_0 19 rfl rfl)
abbrev cX6_isOver : ByteArray := prog_4_method_6_code
def yX6_isOver : MethodName := ⟨RX6, "isOver", "()Z"⟩
theorem dX6_isOver_0 : decode cX6_isOver 0 = .ok (.aload_n 0, 1) := by decide +kernel
theorem dX6_isOver_1 : decode cX6_isOver 1 = .ok (.getfield 23, 3) := by decide +kernel
theorem dX6_isOver_4 : decode cX6_isOver 4 = .ok (.ireturn, 1) := by decide +kernel
abbrev cX6_ends : ByteArray := prog_4_method_12_code
def yX6_ends : MethodName := ⟨RX6, "ends", "()V"⟩
def dkwX6_ends_0 : List UInt8 := [42, 4, 181, 0, 23, 177]
abbrev dktX6_ends_0 : List UInt8 := dkwX6_ends_0 ++ []
theorem dksX6_ends_0 : cX6_ends.data.toList.drop 0 = dktX6_ends_0 := by decide +kernel
theorem dX6_ends_0 : decode cX6_ends 0 = .ok (.aload_n 0, 1) := dk_42 (dk_at dksX6_ends_0 0 rfl rfl)
theorem dX6_ends_1 : decode cX6_ends 1 = .ok (.iconst 1, 1) := dk_4 (dk_at dksX6_ends_0 1 rfl rfl)
theorem dX6_ends_2 : decode cX6_ends 2 = .ok (.putfield 23, 3) := dk_181 0 23 (dk_at dksX6_ends_0 2 rfl rfl)
theorem dX6_ends_5 : decode cX6_ends 5 = .ok (.return_, 1) := dk_177 (dk_at dksX6_ends_0 5 rfl rfl)
abbrev cX6_span : ByteArray := prog_4_method_5_code
def yX6_span : MethodName := ⟨RX6, "span", "()LBoxSpans$Span;"⟩
theorem dX6_span_0 : decode cX6_span 0 = .ok (.aload_n 0, 1) := by decide +kernel
theorem dX6_span_1 : decode cX6_span 1 = .ok (.getfield 16, 3) := by decide +kernel
theorem dX6_span_4 : decode cX6_span 4 = .ok (.areturn, 1) := by decide +kernel
abbrev cX6_box : ByteArray := prog_4_method_3_code
def yX6_box : MethodName := ⟨RX6, "box", "()I"⟩
theorem dX6_box_0 : decode cX6_box 0 = .ok (.aload_n 0, 1) := by decide +kernel
theorem dX6_box_1 : decode cX6_box 1 = .ok (.getfield 7, 3) := by decide +kernel
theorem dX6_box_4 : decode cX6_box 4 = .ok (.ireturn, 1) := by decide +kernel
abbrev cX6_becomes : ByteArray := prog_4_method_11_code
def yX6_becomes : MethodName := ⟨RX6, "becomes", "(LBoxSpans$Span;)V"⟩
def dkwX6_becomes_0 : List UInt8 := [42, 43, 181, 0, 16, 177]
abbrev dktX6_becomes_0 : List UInt8 := dkwX6_becomes_0 ++ []
theorem dksX6_becomes_0 : cX6_becomes.data.toList.drop 0 = dktX6_becomes_0 := by decide +kernel
theorem dX6_becomes_0 : decode cX6_becomes 0 = .ok (.aload_n 0, 1) := dk_42 (dk_at dksX6_becomes_0 0 rfl rfl)
theorem dX6_becomes_1 : decode cX6_becomes 1 = .ok (.aload_n 1, 1) := dk_43 (dk_at dksX6_becomes_0 1 rfl rfl)
theorem dX6_becomes_2 : decode cX6_becomes 2 = .ok (.putfield 16, 3) := dk_181 0 16 (dk_at dksX6_becomes_0 2 rfl rfl)
theorem dX6_becomes_5 : decode cX6_becomes 5 = .ok (.return_, 1) := dk_177 (dk_at dksX6_becomes_0 5 rfl rfl)
abbrev cX6_party : ByteArray := prog_4_method_4_code
def yX6_party : MethodName := ⟨RX6, "party", "()I"⟩
theorem dX6_party_0 : decode cX6_party 0 = .ok (.aload_n 0, 1) := by decide +kernel
theorem dX6_party_1 : decode cX6_party 1 = .ok (.getfield 13, 3) := by decide +kernel
theorem dX6_party_4 : decode cX6_party 4 = .ok (.ireturn, 1) := by decide +kernel
theorem q137 : (Jvm.Cond.initialized "BoxSpans$Letting") ∈ lw_all := lw_g (lw_at lw_m1 37 rfl) rfl
theorem q903 : (Jvm.Cond.selects "BoxSpans$Letting" ({ cls := "java/lang/Object", name := "getClass", desc := "()Ljava/lang/Class;" } : Jvm.MethodName) ({ cls := "java/lang/Object", name := "getClass", desc := "()Ljava/lang/Class;" } : Jvm.MethodName)) ∈ lw_all := lw_g (lw_at lw_m4 83 rfl) rfl
theorem q1004 : (Jvm.Cond.castable "BoxSpans$Letting" "BoxSpans$Timed") ∈ lw_tbl := lw_at lw_m4 184 rfl
theorem q1005 : (Jvm.Cond.selects "BoxSpans$Letting" ({ cls := "BoxSpans$Timed", name := "from", desc := "()I" } : Jvm.MethodName) ({ cls := "BoxSpans$Letting", name := "from", desc := "()I" } : Jvm.MethodName)) ∈ lw_all := lw_g (lw_at lw_m4 185 rfl) rfl
theorem q1006 : (Jvm.Cond.unhidden "BoxSpans$Letting" "from" "()I") ∈ lw_tbl := lw_at lw_m4 186 rfl
theorem q1007 : (Jvm.Cond.instanceMethod ({ cls := "BoxSpans$Letting", name := "from", desc := "()I" } : Jvm.MethodName)) ∈ lw_all := lw_g (lw_at lw_m4 187 rfl) rfl
theorem q1008 : (Jvm.Cond.publicMethod ({ cls := "BoxSpans$Letting", name := "from", desc := "()I" } : Jvm.MethodName)) ∈ lw_tbl := lw_at lw_m4 188 rfl
theorem q1009 : (Jvm.Cond.code ({ cls := "BoxSpans$Letting", name := "from", desc := "()I" } : Jvm.MethodName) prog_4_method_8_code (1 : Nat) (Option.some Jvm.ClassFile.FieldType.int)) ∈ lw_all := lw_g (lw_at lw_m4 189 rfl) rfl
theorem q1010 : (Jvm.Cond.methodLink "BoxSpans$Letting" (27 : Nat) ({ cls := "BoxSpans$Span", name := "from", desc := "()I" } : Jvm.MethodName)) ∈ lw_all := lw_g (lw_at lw_m4 190 rfl) rfl
theorem q1029 : (Jvm.Cond.selects "BoxSpans$Letting" ({ cls := "BoxSpans$Timed", name := "to", desc := "()I" } : Jvm.MethodName) ({ cls := "BoxSpans$Letting", name := "to", desc := "()I" } : Jvm.MethodName)) ∈ lw_all := lw_g (lw_at lw_m4 209 rfl) rfl
theorem q1030 : (Jvm.Cond.unhidden "BoxSpans$Letting" "to" "()I") ∈ lw_tbl := lw_at lw_m4 210 rfl
theorem q1031 : (Jvm.Cond.instanceMethod ({ cls := "BoxSpans$Letting", name := "to", desc := "()I" } : Jvm.MethodName)) ∈ lw_all := lw_g (lw_at lw_m4 211 rfl) rfl
theorem q1032 : (Jvm.Cond.publicMethod ({ cls := "BoxSpans$Letting", name := "to", desc := "()I" } : Jvm.MethodName)) ∈ lw_tbl := lw_at lw_m4 212 rfl
theorem q1033 : (Jvm.Cond.code ({ cls := "BoxSpans$Letting", name := "to", desc := "()I" } : Jvm.MethodName) prog_4_method_9_code (1 : Nat) (Option.some Jvm.ClassFile.FieldType.int)) ∈ lw_all := lw_g (lw_at lw_m4 213 rfl) rfl
theorem q1034 : (Jvm.Cond.methodLink "BoxSpans$Letting" (33 : Nat) ({ cls := "BoxSpans$Span", name := "to", desc := "()I" } : Jvm.MethodName)) ∈ lw_all := lw_g (lw_at lw_m4 214 rfl) rfl
theorem q1096 : (Jvm.Cond.instanceMethod ({ cls := "BoxSpans$Letting", name := "isIn", desc := "(I)Z" } : Jvm.MethodName)) ∈ lw_all := lw_g (lw_at lw_m5 36 rfl) rfl
theorem q1097 : (Jvm.Cond.selects "BoxSpans$Letting" ({ cls := "BoxSpans$Letting", name := "isIn", desc := "(I)Z" } : Jvm.MethodName) ({ cls := "BoxSpans$Letting", name := "isIn", desc := "(I)Z" } : Jvm.MethodName)) ∈ lw_all := lw_g (lw_at lw_m5 37 rfl) rfl
theorem q1098 : (Jvm.Cond.code ({ cls := "BoxSpans$Letting", name := "isIn", desc := "(I)Z" } : Jvm.MethodName) prog_4_method_7_code (2 : Nat) (Option.some Jvm.ClassFile.FieldType.boolean)) ∈ lw_all := lw_g (lw_at lw_m5 38 rfl) rfl
theorem q1099 : (Jvm.Cond.superclass "BoxSpans$Letting" "java/lang/Object") ∈ lw_all := lw_g (lw_at lw_m5 39 rfl) rfl
theorem q1100 : (Jvm.Cond.unhidden "BoxSpans$Letting" "has" "(I)Z") ∈ lw_tbl := lw_at lw_m5 40 rfl
theorem q1110 : (Jvm.Cond.unhidden "BoxSpans$Letting" "length" "()I") ∈ lw_tbl := lw_at lw_m5 50 rfl
theorem q1115 : (Jvm.Cond.instanceMethod ({ cls := "BoxSpans$Letting", name := "coins", desc := "()I" } : Jvm.MethodName)) ∈ lw_all := lw_g (lw_at lw_m5 55 rfl) rfl
theorem q1116 : (Jvm.Cond.selects "BoxSpans$Letting" ({ cls := "BoxSpans$Letting", name := "coins", desc := "()I" } : Jvm.MethodName) ({ cls := "BoxSpans$Letting", name := "coins", desc := "()I" } : Jvm.MethodName)) ∈ lw_all := lw_g (lw_at lw_m5 56 rfl) rfl
theorem q1117 : (Jvm.Cond.code ({ cls := "BoxSpans$Letting", name := "coins", desc := "()I" } : Jvm.MethodName) prog_4_method_10_code (1 : Nat) (Option.some Jvm.ClassFile.FieldType.int)) ∈ lw_all := lw_g (lw_at lw_m5 57 rfl) rfl
theorem q1311 : (Jvm.Cond.instanceMethod ({ cls := "BoxSpans$Letting", name := "copy", desc := "()LBoxSpans$Letting;" } : Jvm.MethodName)) ∈ lw_all := lw_g (lw_at lw_m6 11 rfl) rfl
theorem q1312 : (Jvm.Cond.selects "BoxSpans$Letting" ({ cls := "BoxSpans$Letting", name := "copy", desc := "()LBoxSpans$Letting;" } : Jvm.MethodName) ({ cls := "BoxSpans$Letting", name := "copy", desc := "()LBoxSpans$Letting;" } : Jvm.MethodName)) ∈ lw_all := lw_g (lw_at lw_m6 12 rfl) rfl
theorem q1313 : (Jvm.Cond.code ({ cls := "BoxSpans$Letting", name := "copy", desc := "()LBoxSpans$Letting;" } : Jvm.MethodName) prog_4_method_2_code (2 : Nat) (Option.some (Jvm.ClassFile.FieldType.object "BoxSpans$Letting"))) ∈ lw_all := lw_g (lw_at lw_m6 13 rfl) rfl
theorem q1314 : (Jvm.Cond.classLink "BoxSpans$Letting" (8 : Nat) "BoxSpans$Letting") ∈ lw_all := lw_g (lw_at lw_m6 14 rfl) rfl
theorem q1315 : (Jvm.Cond.instantiable "BoxSpans$Letting" (4 : Nat)) ∈ lw_all := lw_g (lw_at lw_m6 15 rfl) rfl
theorem q1316 : (Jvm.Cond.methodLink "BoxSpans$Letting" (20 : Nat) ({ cls := "BoxSpans$Letting", name := "<init>", desc := "(IILBoxSpans$Span;)V" } : Jvm.MethodName)) ∈ lw_all := lw_g (lw_at lw_m6 16 rfl) rfl
theorem q1317 : (Jvm.Cond.instanceMethod ({ cls := "BoxSpans$Letting", name := "<init>", desc := "(IILBoxSpans$Span;)V" } : Jvm.MethodName)) ∈ lw_all := lw_g (lw_at lw_m6 17 rfl) rfl
theorem q1318 : (Jvm.Cond.code ({ cls := "BoxSpans$Letting", name := "<init>", desc := "(IILBoxSpans$Span;)V" } : Jvm.MethodName) prog_4_method_1_code (4 : Nat) (Option.none : Option Jvm.ClassFile.FieldType)) ∈ lw_all := lw_g (lw_at lw_m6 18 rfl) rfl
theorem q1319 : (Jvm.Cond.methodLink "BoxSpans$Letting" (1 : Nat) ({ cls := "java/lang/Object", name := "<init>", desc := "()V" } : Jvm.MethodName)) ∈ lw_all := lw_g (lw_at lw_m6 19 rfl) rfl
theorem q1320 : (Jvm.Cond.fieldLink "BoxSpans$Letting" (7 : Nat) "BoxSpans$Letting" "box" "I") ∈ lw_all := lw_g (lw_at lw_m6 20 rfl) rfl
theorem q1321 : (Jvm.Cond.fieldLink "BoxSpans$Letting" (13 : Nat) "BoxSpans$Letting" "party" "I") ∈ lw_all := lw_g (lw_at lw_m6 21 rfl) rfl
theorem q1322 : (Jvm.Cond.fieldLink "BoxSpans$Letting" (16 : Nat) "BoxSpans$Letting" "span" "LBoxSpans$Span;") ∈ lw_all := lw_g (lw_at lw_m6 22 rfl) rfl
theorem q1323 : (Jvm.Cond.fieldLink "BoxSpans$Letting" (23 : Nat) "BoxSpans$Letting" "isOver" "Z") ∈ lw_all := lw_g (lw_at lw_m6 23 rfl) rfl
theorem q1324 : (Jvm.Cond.laysFinal "BoxSpans$Letting" "BoxSpans$Letting" "box" "I") ∈ lw_all := lw_g (lw_at lw_m6 24 rfl) rfl
theorem q1325 : (Jvm.Cond.soleField "BoxSpans$Letting" "box") ∈ lw_all := lw_g (lw_at lw_m6 25 rfl) rfl
theorem q1326 : (Jvm.Cond.laysFinal "BoxSpans$Letting" "BoxSpans$Letting" "party" "I") ∈ lw_all := lw_g (lw_at lw_m6 26 rfl) rfl
theorem q1327 : (Jvm.Cond.soleField "BoxSpans$Letting" "party") ∈ lw_all := lw_g (lw_at lw_m6 27 rfl) rfl
theorem q1328 : (Jvm.Cond.lays "BoxSpans$Letting" "BoxSpans$Letting" "span" "LBoxSpans$Span;") ∈ lw_all := lw_g (lw_at lw_m6 28 rfl) rfl
theorem q1329 : (Jvm.Cond.soleField "BoxSpans$Letting" "span") ∈ lw_all := lw_g (lw_at lw_m6 29 rfl) rfl
theorem q1330 : (Jvm.Cond.lays "BoxSpans$Letting" "BoxSpans$Letting" "isOver" "Z") ∈ lw_all := lw_g (lw_at lw_m6 30 rfl) rfl
theorem q1331 : (Jvm.Cond.soleField "BoxSpans$Letting" "isOver") ∈ lw_all := lw_g (lw_at lw_m6 31 rfl) rfl
theorem q1475 : (Jvm.Cond.instanceMethod ({ cls := "BoxSpans$Letting", name := "isOver", desc := "()Z" } : Jvm.MethodName)) ∈ lw_all := lw_g (lw_at lw_m6 175 rfl) rfl
theorem q1476 : (Jvm.Cond.selects "BoxSpans$Letting" ({ cls := "BoxSpans$Letting", name := "isOver", desc := "()Z" } : Jvm.MethodName) ({ cls := "BoxSpans$Letting", name := "isOver", desc := "()Z" } : Jvm.MethodName)) ∈ lw_all := lw_g (lw_at lw_m6 176 rfl) rfl
theorem q1477 : (Jvm.Cond.code ({ cls := "BoxSpans$Letting", name := "isOver", desc := "()Z" } : Jvm.MethodName) prog_4_method_6_code (1 : Nat) (Option.some Jvm.ClassFile.FieldType.boolean)) ∈ lw_all := lw_g (lw_at lw_m6 177 rfl) rfl
theorem q1479 : (Jvm.Cond.instanceMethod ({ cls := "BoxSpans$Letting", name := "ends", desc := "()V" } : Jvm.MethodName)) ∈ lw_all := lw_g (lw_at lw_m6 179 rfl) rfl
theorem q1480 : (Jvm.Cond.selects "BoxSpans$Letting" ({ cls := "BoxSpans$Letting", name := "ends", desc := "()V" } : Jvm.MethodName) ({ cls := "BoxSpans$Letting", name := "ends", desc := "()V" } : Jvm.MethodName)) ∈ lw_all := lw_g (lw_at lw_m6 180 rfl) rfl
theorem q1481 : (Jvm.Cond.code ({ cls := "BoxSpans$Letting", name := "ends", desc := "()V" } : Jvm.MethodName) prog_4_method_12_code (1 : Nat) (Option.none : Option Jvm.ClassFile.FieldType)) ∈ lw_all := lw_g (lw_at lw_m6 181 rfl) rfl
theorem q1496 : (Jvm.Cond.instanceMethod ({ cls := "BoxSpans$Letting", name := "span", desc := "()LBoxSpans$Span;" } : Jvm.MethodName)) ∈ lw_all := lw_g (lw_at lw_m6 196 rfl) rfl
theorem q1497 : (Jvm.Cond.selects "BoxSpans$Letting" ({ cls := "BoxSpans$Letting", name := "span", desc := "()LBoxSpans$Span;" } : Jvm.MethodName) ({ cls := "BoxSpans$Letting", name := "span", desc := "()LBoxSpans$Span;" } : Jvm.MethodName)) ∈ lw_all := lw_g (lw_at lw_m6 197 rfl) rfl
theorem q1498 : (Jvm.Cond.code ({ cls := "BoxSpans$Letting", name := "span", desc := "()LBoxSpans$Span;" } : Jvm.MethodName) prog_4_method_5_code (1 : Nat) (Option.some (Jvm.ClassFile.FieldType.object "BoxSpans$Span"))) ∈ lw_all := lw_g (lw_at lw_m6 198 rfl) rfl
theorem q1513 : (Jvm.Cond.instanceMethod ({ cls := "BoxSpans$Letting", name := "box", desc := "()I" } : Jvm.MethodName)) ∈ lw_all := lw_g (lw_at lw_m6 213 rfl) rfl
theorem q1514 : (Jvm.Cond.selects "BoxSpans$Letting" ({ cls := "BoxSpans$Letting", name := "box", desc := "()I" } : Jvm.MethodName) ({ cls := "BoxSpans$Letting", name := "box", desc := "()I" } : Jvm.MethodName)) ∈ lw_all := lw_g (lw_at lw_m6 214 rfl) rfl
theorem q1515 : (Jvm.Cond.code ({ cls := "BoxSpans$Letting", name := "box", desc := "()I" } : Jvm.MethodName) prog_4_method_3_code (1 : Nat) (Option.some Jvm.ClassFile.FieldType.int)) ∈ lw_all := lw_g (lw_at lw_m6 215 rfl) rfl
theorem q1517 : (Jvm.Cond.instanceMethod ({ cls := "BoxSpans$Letting", name := "becomes", desc := "(LBoxSpans$Span;)V" } : Jvm.MethodName)) ∈ lw_all := lw_g (lw_at lw_m6 217 rfl) rfl
theorem q1518 : (Jvm.Cond.selects "BoxSpans$Letting" ({ cls := "BoxSpans$Letting", name := "becomes", desc := "(LBoxSpans$Span;)V" } : Jvm.MethodName) ({ cls := "BoxSpans$Letting", name := "becomes", desc := "(LBoxSpans$Span;)V" } : Jvm.MethodName)) ∈ lw_all := lw_g (lw_at lw_m6 218 rfl) rfl
theorem q1519 : (Jvm.Cond.code ({ cls := "BoxSpans$Letting", name := "becomes", desc := "(LBoxSpans$Span;)V" } : Jvm.MethodName) prog_4_method_11_code (2 : Nat) (Option.none : Option Jvm.ClassFile.FieldType)) ∈ lw_all := lw_g (lw_at lw_m6 219 rfl) rfl
theorem q1535 : (Jvm.Cond.instanceMethod ({ cls := "BoxSpans$Letting", name := "party", desc := "()I" } : Jvm.MethodName)) ∈ lw_all := lw_g (lw_at lw_m6 235 rfl) rfl
theorem q1536 : (Jvm.Cond.selects "BoxSpans$Letting" ({ cls := "BoxSpans$Letting", name := "party", desc := "()I" } : Jvm.MethodName) ({ cls := "BoxSpans$Letting", name := "party", desc := "()I" } : Jvm.MethodName)) ∈ lw_all := lw_g (lw_at lw_m6 236 rfl) rfl
theorem q1537 : (Jvm.Cond.code ({ cls := "BoxSpans$Letting", name := "party", desc := "()I" } : Jvm.MethodName) prog_4_method_4_code (1 : Nat) (Option.some Jvm.ClassFile.FieldType.int)) ∈ lw_all := lw_g (lw_at lw_m6 237 rfl) rfl
theorem q2065 : (Jvm.Cond.selects "BoxSpans$Letting" ({ cls := "java/lang/Object", name := "toString", desc := "()Ljava/lang/String;" } : Jvm.MethodName) ({ cls := "java/lang/Object", name := "toString", desc := "()Ljava/lang/String;" } : Jvm.MethodName)) ∈ lw_all := lw_g (lw_at lw_m9 45 rfl) rfl
theorem q3082 : (Jvm.Cond.selects "BoxSpans$Letting" ({ cls := "BoxSpans$Letting", name := "from", desc := "()I" } : Jvm.MethodName) ({ cls := "BoxSpans$Letting", name := "from", desc := "()I" } : Jvm.MethodName)) ∈ lw_all := lw_g (lw_at lw_m13 102 rfl) rfl
theorem q3083 : (Jvm.Cond.selects "BoxSpans$Letting" ({ cls := "BoxSpans$Letting", name := "to", desc := "()I" } : Jvm.MethodName) ({ cls := "BoxSpans$Letting", name := "to", desc := "()I" } : Jvm.MethodName)) ∈ lw_all := lw_g (lw_at lw_m13 103 rfl) rfl
theorem q3112 : (Jvm.Cond.castable "BoxSpans$Letting" "java/lang/Object") ∈ lw_tbl := lw_at lw_m13 132 rfl
theorem in_X6 : ∀ w ∈ wsX60, w ∈ lw_all := lw_in wsX60 [1324, 1326, 1328, 1330] (by decide +kernel) (by decide +kernel)
/-! BoxSpans$Timed -/
set_option maxRecDepth 100000
def RX7 : String := "BoxSpans$Timed"
abbrev cX7_has : ByteArray := prog_13_method_4_code
def yX7_has : MethodName := ⟨RX7, "has", "(I)Z"⟩
def dkwX7_has_1 : List UInt8 := [3, 172]
abbrev dktX7_has_1 : List UInt8 := dkwX7_has_1 ++ []
def dkwX7_has_0 : List UInt8 := [42, 185, 0, 7, 1, 0, 27, 163, 0, 17, 27, 42, 185, 0, 1, 1, 0, 162, 0, 7, 4, 167, 0, 4]
abbrev dktX7_has_0 : List UInt8 := dkwX7_has_0 ++ dktX7_has_1
theorem dksX7_has_0 : cX7_has.data.toList.drop 0 = dktX7_has_0 := by decide +kernel
theorem dksX7_has_1 : cX7_has.data.toList.drop 24 = dktX7_has_1 := dk_seg dksX7_has_0 24 rfl rfl
theorem dX7_has_0 : decode cX7_has 0 = .ok (.aload_n 0, 1) := dk_42 (dk_at dksX7_has_0 0 rfl rfl)
theorem dX7_has_1 : decode cX7_has 1 = .ok (.invokeinterface 7 1, 5) := by decide +kernel
theorem dX7_has_6 : decode cX7_has 6 = .ok (.iload_n 1, 1) := dk_27 (dk_at dksX7_has_0 6 rfl rfl)
theorem dX7_has_7 : decode cX7_has 7 = .ok (.if_icmp .gt 17, 3) := dk_163 0 17 (dk_at dksX7_has_0 7 rfl rfl)
theorem dX7_has_10 : decode cX7_has 10 = .ok (.iload_n 1, 1) := dk_27 (dk_at dksX7_has_0 10 rfl rfl)
theorem dX7_has_11 : decode cX7_has 11 = .ok (.aload_n 0, 1) := dk_42 (dk_at dksX7_has_0 11 rfl rfl)
theorem dX7_has_12 : decode cX7_has 12 = .ok (.invokeinterface 1 1, 5) := by decide +kernel
theorem dX7_has_17 : decode cX7_has 17 = .ok (.if_icmp .ge 7, 3) := dk_162 0 7 (dk_at dksX7_has_0 17 rfl rfl)
theorem dX7_has_20 : decode cX7_has 20 = .ok (.iconst 1, 1) := dk_4 (dk_at dksX7_has_0 20 rfl rfl)
theorem dX7_has_21 : decode cX7_has 21 = .ok (.goto 4, 3) := dk_167 0 4 (dk_at dksX7_has_0 21 rfl rfl)
theorem dX7_has_24 : decode cX7_has 24 = .ok (.iconst 0, 1) := dk_3 (dk_at dksX7_has_1 0 rfl rfl)
theorem dX7_has_25 : decode cX7_has 25 = .ok (.ireturn, 1) := dk_172 (dk_at dksX7_has_1 1 rfl rfl)
abbrev cX7_length : ByteArray := prog_13_method_3_code
def yX7_length : MethodName := ⟨RX7, "length", "()I"⟩
def dkwX7_length_0 : List UInt8 := [42, 185, 0, 1, 1, 0, 42, 185, 0, 7, 1, 0, 100, 172]
abbrev dktX7_length_0 : List UInt8 := dkwX7_length_0 ++ []
theorem dksX7_length_0 : cX7_length.data.toList.drop 0 = dktX7_length_0 := by decide +kernel
theorem dX7_length_0 : decode cX7_length 0 = .ok (.aload_n 0, 1) := dk_42 (dk_at dksX7_length_0 0 rfl rfl)
theorem dX7_length_1 : decode cX7_length 1 = .ok (.invokeinterface 1 1, 5) := by decide +kernel
theorem dX7_length_6 : decode cX7_length 6 = .ok (.aload_n 0, 1) := dk_42 (dk_at dksX7_length_0 6 rfl rfl)
theorem dX7_length_7 : decode cX7_length 7 = .ok (.invokeinterface 7 1, 5) := by decide +kernel
theorem dX7_length_12 : decode cX7_length 12 = .ok (.isub, 1) := dk_100 (dk_at dksX7_length_0 12 rfl rfl)
theorem dX7_length_13 : decode cX7_length 13 = .ok (.ireturn, 1) := dk_172 (dk_at dksX7_length_0 13 rfl rfl)
abbrev cX7_areTogether : ByteArray := prog_13_method_5_code
def yX7_areTogether : MethodName := ⟨RX7, "areTogether", "(LBoxSpans$Timed;LBoxSpans$Timed;)Z"⟩
def dkwX7_areTogether_1 : List UInt8 := [185, 0, 1, 1, 0, 162, 0, 7, 4, 167, 0, 4, 3, 172]
abbrev dktX7_areTogether_1 : List UInt8 := dkwX7_areTogether_1 ++ []
def dkwX7_areTogether_0 : List UInt8 := [42, 185, 0, 7, 1, 0, 43, 185, 0, 1, 1, 0, 162, 0, 22, 43, 185, 0, 7, 1, 0, 42]
abbrev dktX7_areTogether_0 : List UInt8 := dkwX7_areTogether_0 ++ dktX7_areTogether_1
theorem dksX7_areTogether_0 : cX7_areTogether.data.toList.drop 0 = dktX7_areTogether_0 := by decide +kernel
theorem dksX7_areTogether_1 : cX7_areTogether.data.toList.drop 22 = dktX7_areTogether_1 := dk_seg dksX7_areTogether_0 22 rfl rfl
theorem dX7_areTogether_0 : decode cX7_areTogether 0 = .ok (.aload_n 0, 1) := dk_42 (dk_at dksX7_areTogether_0 0 rfl rfl)
theorem dX7_areTogether_1 : decode cX7_areTogether 1 = .ok (.invokeinterface 7 1, 5) := by decide +kernel
theorem dX7_areTogether_6 : decode cX7_areTogether 6 = .ok (.aload_n 1, 1) := dk_43 (dk_at dksX7_areTogether_0 6 rfl rfl)
theorem dX7_areTogether_7 : decode cX7_areTogether 7 = .ok (.invokeinterface 1 1, 5) := by decide +kernel
theorem dX7_areTogether_12 : decode cX7_areTogether 12 = .ok (.if_icmp .ge 22, 3) := dk_162 0 22 (dk_at dksX7_areTogether_0 12 rfl rfl)
theorem dX7_areTogether_15 : decode cX7_areTogether 15 = .ok (.aload_n 1, 1) := dk_43 (dk_at dksX7_areTogether_0 15 rfl rfl)
theorem dX7_areTogether_16 : decode cX7_areTogether 16 = .ok (.invokeinterface 7 1, 5) := by decide +kernel
theorem dX7_areTogether_21 : decode cX7_areTogether 21 = .ok (.aload_n 0, 1) := dk_42 (dk_at dksX7_areTogether_0 21 rfl rfl)
theorem dX7_areTogether_22 : decode cX7_areTogether 22 = .ok (.invokeinterface 1 1, 5) := by decide +kernel
theorem dX7_areTogether_27 : decode cX7_areTogether 27 = .ok (.if_icmp .ge 7, 3) := dk_162 0 7 (dk_at dksX7_areTogether_1 5 rfl rfl)
theorem dX7_areTogether_30 : decode cX7_areTogether 30 = .ok (.iconst 1, 1) := dk_4 (dk_at dksX7_areTogether_1 8 rfl rfl)
theorem dX7_areTogether_31 : decode cX7_areTogether 31 = .ok (.goto 4, 3) := dk_167 0 4 (dk_at dksX7_areTogether_1 9 rfl rfl)
theorem dX7_areTogether_34 : decode cX7_areTogether 34 = .ok (.iconst 0, 1) := dk_3 (dk_at dksX7_areTogether_1 12 rfl rfl)
theorem dX7_areTogether_35 : decode cX7_areTogether 35 = .ok (.ireturn, 1) := dk_172 (dk_at dksX7_areTogether_1 13 rfl rfl)
abbrev cX7_between : ByteArray := prog_13_method_6_code
def yX7_between : MethodName := ⟨RX7, "between", "(LBoxSpans$Timed;LBoxSpans$Timed;)I"⟩
def dkwX7_between_1 : List UInt8 := [185, 0, 1, 1, 0, 184, 0, 16, 100, 172]
abbrev dktX7_between_1 : List UInt8 := dkwX7_between_1 ++ []
def dkwX7_between_0 : List UInt8 := [42, 185, 0, 7, 1, 0, 43, 185, 0, 7, 1, 0, 184, 0, 10, 42, 185, 0, 1, 1, 0, 43]
abbrev dktX7_between_0 : List UInt8 := dkwX7_between_0 ++ dktX7_between_1
theorem dksX7_between_0 : cX7_between.data.toList.drop 0 = dktX7_between_0 := by decide +kernel
theorem dksX7_between_1 : cX7_between.data.toList.drop 22 = dktX7_between_1 := dk_seg dksX7_between_0 22 rfl rfl
theorem dX7_between_0 : decode cX7_between 0 = .ok (.aload_n 0, 1) := dk_42 (dk_at dksX7_between_0 0 rfl rfl)
theorem dX7_between_1 : decode cX7_between 1 = .ok (.invokeinterface 7 1, 5) := by decide +kernel
theorem dX7_between_6 : decode cX7_between 6 = .ok (.aload_n 1, 1) := dk_43 (dk_at dksX7_between_0 6 rfl rfl)
theorem dX7_between_7 : decode cX7_between 7 = .ok (.invokeinterface 7 1, 5) := by decide +kernel
theorem dX7_between_12 : decode cX7_between 12 = .ok (.invokestatic 10, 3) := dk_184 0 10 (dk_at dksX7_between_0 12 rfl rfl)
theorem dX7_between_15 : decode cX7_between 15 = .ok (.aload_n 0, 1) := dk_42 (dk_at dksX7_between_0 15 rfl rfl)
theorem dX7_between_16 : decode cX7_between 16 = .ok (.invokeinterface 1 1, 5) := by decide +kernel
theorem dX7_between_21 : decode cX7_between 21 = .ok (.aload_n 1, 1) := dk_43 (dk_at dksX7_between_0 21 rfl rfl)
theorem dX7_between_22 : decode cX7_between 22 = .ok (.invokeinterface 1 1, 5) := by decide +kernel
theorem dX7_between_27 : decode cX7_between 27 = .ok (.invokestatic 16, 3) := dk_184 0 16 (dk_at dksX7_between_1 5 rfl rfl)
theorem dX7_between_30 : decode cX7_between 30 = .ok (.isub, 1) := dk_100 (dk_at dksX7_between_1 8 rfl rfl)
theorem dX7_between_31 : decode cX7_between 31 = .ok (.ireturn, 1) := dk_172 (dk_at dksX7_between_1 9 rfl rfl)
theorem q140 : (Jvm.Cond.initialized "BoxSpans$Timed") ∈ lw_all := lw_g (lw_at lw_m1 40 rfl) rfl
theorem q995 : (Jvm.Cond.declares ({ cls := "BoxSpans$Timed", name := "has", desc := "(I)Z" } : Jvm.MethodName)) ∈ lw_tbl := lw_at lw_m4 175 rfl
theorem q997 : (Jvm.Cond.instanceMethod ({ cls := "BoxSpans$Timed", name := "has", desc := "(I)Z" } : Jvm.MethodName)) ∈ lw_all := lw_g (lw_at lw_m4 177 rfl) rfl
theorem q998 : (Jvm.Cond.publicMethod ({ cls := "BoxSpans$Timed", name := "has", desc := "(I)Z" } : Jvm.MethodName)) ∈ lw_tbl := lw_at lw_m4 178 rfl
theorem q999 : (Jvm.Cond.code ({ cls := "BoxSpans$Timed", name := "has", desc := "(I)Z" } : Jvm.MethodName) prog_13_method_4_code (2 : Nat) (Option.some Jvm.ClassFile.FieldType.boolean)) ∈ lw_all := lw_g (lw_at lw_m4 179 rfl) rfl
theorem q1000 : (Jvm.Cond.interfaceEntry "BoxSpans$Timed" (7 : Nat)) ∈ lw_tbl := lw_at lw_m4 180 rfl
theorem q1001 : (Jvm.Cond.methodLink "BoxSpans$Timed" (7 : Nat) ({ cls := "BoxSpans$Timed", name := "from", desc := "()I" } : Jvm.MethodName)) ∈ lw_all := lw_g (lw_at lw_m4 181 rfl) rfl
theorem q1002 : (Jvm.Cond.interfaceMethod "BoxSpans$Timed" "BoxSpans$Timed" "from" "()I") ∈ lw_tbl := lw_at lw_m4 182 rfl
theorem q1003 : (Jvm.Cond.declares ({ cls := "BoxSpans$Timed", name := "from", desc := "()I" } : Jvm.MethodName)) ∈ lw_tbl := lw_at lw_m4 183 rfl
theorem q1025 : (Jvm.Cond.interfaceEntry "BoxSpans$Timed" (1 : Nat)) ∈ lw_tbl := lw_at lw_m4 205 rfl
theorem q1026 : (Jvm.Cond.methodLink "BoxSpans$Timed" (1 : Nat) ({ cls := "BoxSpans$Timed", name := "to", desc := "()I" } : Jvm.MethodName)) ∈ lw_all := lw_g (lw_at lw_m4 206 rfl) rfl
theorem q1027 : (Jvm.Cond.interfaceMethod "BoxSpans$Timed" "BoxSpans$Timed" "to" "()I") ∈ lw_tbl := lw_at lw_m4 207 rfl
theorem q1028 : (Jvm.Cond.declares ({ cls := "BoxSpans$Timed", name := "to", desc := "()I" } : Jvm.MethodName)) ∈ lw_tbl := lw_at lw_m4 208 rfl
theorem q1109 : (Jvm.Cond.declares ({ cls := "BoxSpans$Timed", name := "length", desc := "()I" } : Jvm.MethodName)) ∈ lw_tbl := lw_at lw_m5 49 rfl
theorem q1111 : (Jvm.Cond.instanceMethod ({ cls := "BoxSpans$Timed", name := "length", desc := "()I" } : Jvm.MethodName)) ∈ lw_all := lw_g (lw_at lw_m5 51 rfl) rfl
theorem q1112 : (Jvm.Cond.publicMethod ({ cls := "BoxSpans$Timed", name := "length", desc := "()I" } : Jvm.MethodName)) ∈ lw_tbl := lw_at lw_m5 52 rfl
theorem q1113 : (Jvm.Cond.code ({ cls := "BoxSpans$Timed", name := "length", desc := "()I" } : Jvm.MethodName) prog_13_method_3_code (1 : Nat) (Option.some Jvm.ClassFile.FieldType.int)) ∈ lw_all := lw_g (lw_at lw_m5 53 rfl) rfl
theorem q1438 : (Jvm.Cond.static ({ cls := "BoxSpans$Timed", name := "areTogether", desc := "(LBoxSpans$Timed;LBoxSpans$Timed;)Z" } : Jvm.MethodName)) ∈ lw_all := lw_g (lw_at lw_m6 138 rfl) rfl
theorem q1439 : (Jvm.Cond.code ({ cls := "BoxSpans$Timed", name := "areTogether", desc := "(LBoxSpans$Timed;LBoxSpans$Timed;)Z" } : Jvm.MethodName) prog_13_method_5_code (2 : Nat) (Option.some Jvm.ClassFile.FieldType.boolean)) ∈ lw_all := lw_g (lw_at lw_m6 139 rfl) rfl
theorem q1555 : (Jvm.Cond.static ({ cls := "BoxSpans$Timed", name := "between", desc := "(LBoxSpans$Timed;LBoxSpans$Timed;)I" } : Jvm.MethodName)) ∈ lw_all := lw_g (lw_at lw_m7 15 rfl) rfl
theorem q1556 : (Jvm.Cond.code ({ cls := "BoxSpans$Timed", name := "between", desc := "(LBoxSpans$Timed;LBoxSpans$Timed;)I" } : Jvm.MethodName) prog_13_method_6_code (2 : Nat) (Option.some Jvm.ClassFile.FieldType.int)) ∈ lw_all := lw_g (lw_at lw_m7 16 rfl) rfl
theorem q1557 : (Jvm.Cond.methodLink "BoxSpans$Timed" (10 : Nat) ({ cls := "java/lang/Math", name := "max", desc := "(II)I" } : Jvm.MethodName)) ∈ lw_all := lw_g (lw_at lw_m7 17 rfl) rfl
theorem q1558 : (Jvm.Cond.methodLink "BoxSpans$Timed" (16 : Nat) ({ cls := "java/lang/Math", name := "min", desc := "(II)I" } : Jvm.MethodName)) ∈ lw_all := lw_g (lw_at lw_m7 18 rfl) rfl
/-! BoxSpans$Wish -/
set_option maxRecDepth 100000
def RX8 : String := "BoxSpans$Wish"
def TX8 : u_T := fun k => match k with
  | 0 => ("BoxSpans$Wish", "party", "I", true)
  | _ => ("BoxSpans$Wish", "span", "LBoxSpans$Span;", true)
def tyX8 : Nat → FieldType := fun k => match k with
  | 0 => .int
  | _ => .object "BoxSpans$Span"
abbrev wsX80 : List Cond := u_ws RX8 TX8 2
theorem nmX8 : ∀ a, a < 2 → ∀ b, b < 2 → a ≠ b → (TX8 a).2.1 ≠ (TX8 b).2.1 := by decide +kernel
theorem tyX8_ok : ∀ k, k < 2 → parseFieldDescriptor (TX8 k).2.2.1 = some (tyX8 k) := by decide +kernel
abbrev cX8_from : ByteArray := prog_14_method_4_code
def yX8_from : MethodName := ⟨RX8, "from", "()I"⟩
def dkwX8_from_0 : List UInt8 := [42, 180, 0, 13, 182, 0, 17, 172]
abbrev dktX8_from_0 : List UInt8 := dkwX8_from_0 ++ []
theorem dksX8_from_0 : cX8_from.data.toList.drop 0 = dktX8_from_0 := by decide +kernel
theorem dX8_from_0 : decode cX8_from 0 = .ok (.aload_n 0, 1) := dk_42 (dk_at dksX8_from_0 0 rfl rfl)
theorem dX8_from_1 : decode cX8_from 1 = .ok (.getfield 13, 3) := dk_180 0 13 (dk_at dksX8_from_0 1 rfl rfl)
theorem dX8_from_4 : decode cX8_from 4 = .ok (.invokevirtual 17, 3) := dk_182 0 17 (dk_at dksX8_from_0 4 rfl rfl)
theorem dX8_from_7 : decode cX8_from 7 = .ok (.ireturn, 1) := dk_172 (dk_at dksX8_from_0 7 rfl rfl)
abbrev cX8_to : ByteArray := prog_14_method_5_code
def yX8_to : MethodName := ⟨RX8, "to", "()I"⟩
def dkwX8_to_0 : List UInt8 := [42, 180, 0, 13, 182, 0, 23, 172]
abbrev dktX8_to_0 : List UInt8 := dkwX8_to_0 ++ []
theorem dksX8_to_0 : cX8_to.data.toList.drop 0 = dktX8_to_0 := by decide +kernel
theorem dX8_to_0 : decode cX8_to 0 = .ok (.aload_n 0, 1) := dk_42 (dk_at dksX8_to_0 0 rfl rfl)
theorem dX8_to_1 : decode cX8_to 1 = .ok (.getfield 13, 3) := dk_180 0 13 (dk_at dksX8_to_0 1 rfl rfl)
theorem dX8_to_4 : decode cX8_to 4 = .ok (.invokevirtual 23, 3) := dk_182 0 23 (dk_at dksX8_to_0 4 rfl rfl)
theorem dX8_to_7 : decode cX8_to 7 = .ok (.ireturn, 1) := dk_172 (dk_at dksX8_to_0 7 rfl rfl)
abbrev cX8_init : ByteArray := prog_14_method_1_code
def yX8_init : MethodName := ⟨RX8, "<init>", "(ILBoxSpans$Span;)V"⟩
def dkwX8_init_0 : List UInt8 := [42, 183, 0, 1, 42, 27, 181, 0, 7, 42, 44, 181, 0, 13, 177]
abbrev dktX8_init_0 : List UInt8 := dkwX8_init_0 ++ []
theorem dksX8_init_0 : cX8_init.data.toList.drop 0 = dktX8_init_0 := by decide +kernel
theorem dX8_init_0 : decode cX8_init 0 = .ok (.aload_n 0, 1) := dk_42 (dk_at dksX8_init_0 0 rfl rfl)
theorem dX8_init_1 : decode cX8_init 1 = .ok (.invokespecial 1, 3) := dk_183 0 1 (dk_at dksX8_init_0 1 rfl rfl)
theorem dX8_init_4 : decode cX8_init 4 = .ok (.aload_n 0, 1) := dk_42 (dk_at dksX8_init_0 4 rfl rfl)
theorem dX8_init_5 : decode cX8_init 5 = .ok (.iload_n 1, 1) := dk_27 (dk_at dksX8_init_0 5 rfl rfl)
theorem dX8_init_6 : decode cX8_init 6 = .ok (.putfield 7, 3) := dk_181 0 7 (dk_at dksX8_init_0 6 rfl rfl)
theorem dX8_init_9 : decode cX8_init 9 = .ok (.aload_n 0, 1) := dk_42 (dk_at dksX8_init_0 9 rfl rfl)
theorem dX8_init_10 : decode cX8_init 10 = .ok (.aload_n 2, 1) := dk_44 (dk_at dksX8_init_0 10 rfl rfl)
theorem dX8_init_11 : decode cX8_init 11 = .ok (.putfield 13, 3) := dk_181 0 13 (dk_at dksX8_init_0 11 rfl rfl)
theorem dX8_init_14 : decode cX8_init 14 = .ok (.return_, 1) := dk_177 (dk_at dksX8_init_0 14 rfl rfl)
abbrev cX8_party : ByteArray := prog_14_method_2_code
def yX8_party : MethodName := ⟨RX8, "party", "()I"⟩
theorem dX8_party_0 : decode cX8_party 0 = .ok (.aload_n 0, 1) := by decide +kernel
theorem dX8_party_1 : decode cX8_party 1 = .ok (.getfield 7, 3) := by decide +kernel
theorem dX8_party_4 : decode cX8_party 4 = .ok (.ireturn, 1) := by decide +kernel
abbrev cX8_endsAhead : ByteArray := prog_14_method_6_code
def yX8_endsAhead : MethodName := ⟨RX8, "endsAhead", "(LBoxSpans$Wish;)Z"⟩
def dkwX8_endsAhead_1 : List UInt8 := [167, 0, 23, 3, 167, 0, 19, 42, 182, 0, 27, 43, 182, 0, 27, 163, 0, 7, 4, 167, 0, 4, 3, 172]
abbrev dktX8_endsAhead_1 : List UInt8 := dkwX8_endsAhead_1 ++ []
def dkwX8_endsAhead_0 : List UInt8 := [42, 182, 0, 26, 43, 182, 0, 26, 159, 0, 22, 42, 182, 0, 26, 43, 182, 0, 26, 162, 0, 7, 4]
abbrev dktX8_endsAhead_0 : List UInt8 := dkwX8_endsAhead_0 ++ dktX8_endsAhead_1
theorem dksX8_endsAhead_0 : cX8_endsAhead.data.toList.drop 0 = dktX8_endsAhead_0 := by decide +kernel
theorem dksX8_endsAhead_1 : cX8_endsAhead.data.toList.drop 23 = dktX8_endsAhead_1 := dk_seg dksX8_endsAhead_0 23 rfl rfl
theorem dX8_endsAhead_0 : decode cX8_endsAhead 0 = .ok (.aload_n 0, 1) := dk_42 (dk_at dksX8_endsAhead_0 0 rfl rfl)
theorem dX8_endsAhead_1 : decode cX8_endsAhead 1 = .ok (.invokevirtual 26, 3) := dk_182 0 26 (dk_at dksX8_endsAhead_0 1 rfl rfl)
theorem dX8_endsAhead_4 : decode cX8_endsAhead 4 = .ok (.aload_n 1, 1) := dk_43 (dk_at dksX8_endsAhead_0 4 rfl rfl)
theorem dX8_endsAhead_5 : decode cX8_endsAhead 5 = .ok (.invokevirtual 26, 3) := dk_182 0 26 (dk_at dksX8_endsAhead_0 5 rfl rfl)
theorem dX8_endsAhead_8 : decode cX8_endsAhead 8 = .ok (.if_icmp .eq 22, 3) := dk_159 0 22 (dk_at dksX8_endsAhead_0 8 rfl rfl)
theorem dX8_endsAhead_11 : decode cX8_endsAhead 11 = .ok (.aload_n 0, 1) := dk_42 (dk_at dksX8_endsAhead_0 11 rfl rfl)
theorem dX8_endsAhead_12 : decode cX8_endsAhead 12 = .ok (.invokevirtual 26, 3) := dk_182 0 26 (dk_at dksX8_endsAhead_0 12 rfl rfl)
theorem dX8_endsAhead_15 : decode cX8_endsAhead 15 = .ok (.aload_n 1, 1) := dk_43 (dk_at dksX8_endsAhead_0 15 rfl rfl)
theorem dX8_endsAhead_16 : decode cX8_endsAhead 16 = .ok (.invokevirtual 26, 3) := dk_182 0 26 (dk_at dksX8_endsAhead_0 16 rfl rfl)
theorem dX8_endsAhead_19 : decode cX8_endsAhead 19 = .ok (.if_icmp .ge 7, 3) := dk_162 0 7 (dk_at dksX8_endsAhead_0 19 rfl rfl)
theorem dX8_endsAhead_22 : decode cX8_endsAhead 22 = .ok (.iconst 1, 1) := dk_4 (dk_at dksX8_endsAhead_0 22 rfl rfl)
theorem dX8_endsAhead_23 : decode cX8_endsAhead 23 = .ok (.goto 23, 3) := dk_167 0 23 (dk_at dksX8_endsAhead_1 0 rfl rfl)
theorem dX8_endsAhead_26 : decode cX8_endsAhead 26 = .ok (.iconst 0, 1) := dk_3 (dk_at dksX8_endsAhead_1 3 rfl rfl)
theorem dX8_endsAhead_27 : decode cX8_endsAhead 27 = .ok (.goto 19, 3) := dk_167 0 19 (dk_at dksX8_endsAhead_1 4 rfl rfl)
theorem dX8_endsAhead_30 : decode cX8_endsAhead 30 = .ok (.aload_n 0, 1) := dk_42 (dk_at dksX8_endsAhead_1 7 rfl rfl)
theorem dX8_endsAhead_31 : decode cX8_endsAhead 31 = .ok (.invokevirtual 27, 3) := dk_182 0 27 (dk_at dksX8_endsAhead_1 8 rfl rfl)
theorem dX8_endsAhead_34 : decode cX8_endsAhead 34 = .ok (.aload_n 1, 1) := dk_43 (dk_at dksX8_endsAhead_1 11 rfl rfl)
theorem dX8_endsAhead_35 : decode cX8_endsAhead 35 = .ok (.invokevirtual 27, 3) := dk_182 0 27 (dk_at dksX8_endsAhead_1 12 rfl rfl)
theorem dX8_endsAhead_38 : decode cX8_endsAhead 38 = .ok (.if_icmp .gt 7, 3) := dk_163 0 7 (dk_at dksX8_endsAhead_1 15 rfl rfl)
theorem dX8_endsAhead_41 : decode cX8_endsAhead 41 = .ok (.iconst 1, 1) := dk_4 (dk_at dksX8_endsAhead_1 18 rfl rfl)
theorem dX8_endsAhead_42 : decode cX8_endsAhead 42 = .ok (.goto 4, 3) := dk_167 0 4 (dk_at dksX8_endsAhead_1 19 rfl rfl)
theorem dX8_endsAhead_45 : decode cX8_endsAhead 45 = .ok (.iconst 0, 1) := dk_3 (dk_at dksX8_endsAhead_1 22 rfl rfl)
theorem dX8_endsAhead_46 : decode cX8_endsAhead 46 = .ok (.ireturn, 1) := dk_172 (dk_at dksX8_endsAhead_1 23 rfl rfl)
abbrev cX8_span : ByteArray := prog_14_method_3_code
def yX8_span : MethodName := ⟨RX8, "span", "()LBoxSpans$Span;"⟩
theorem dX8_span_0 : decode cX8_span 0 = .ok (.aload_n 0, 1) := by decide +kernel
theorem dX8_span_1 : decode cX8_span 1 = .ok (.getfield 13, 3) := by decide +kernel
theorem dX8_span_4 : decode cX8_span 4 = .ok (.areturn, 1) := by decide +kernel
theorem q141 : (Jvm.Cond.initialized "BoxSpans$Wish") ∈ lw_all := lw_g (lw_at lw_m1 41 rfl) rfl
theorem q911 : (Jvm.Cond.selects "BoxSpans$Wish" ({ cls := "java/lang/Object", name := "getClass", desc := "()Ljava/lang/Class;" } : Jvm.MethodName) ({ cls := "java/lang/Object", name := "getClass", desc := "()Ljava/lang/Class;" } : Jvm.MethodName)) ∈ lw_all := lw_g (lw_at lw_m4 91 rfl) rfl
theorem q994 : (Jvm.Cond.superclass "BoxSpans$Wish" "java/lang/Object") ∈ lw_all := lw_g (lw_at lw_m4 174 rfl) rfl
theorem q996 : (Jvm.Cond.unhidden "BoxSpans$Wish" "has" "(I)Z") ∈ lw_tbl := lw_at lw_m4 176 rfl
theorem q1018 : (Jvm.Cond.castable "BoxSpans$Wish" "BoxSpans$Timed") ∈ lw_tbl := lw_at lw_m4 198 rfl
theorem q1019 : (Jvm.Cond.selects "BoxSpans$Wish" ({ cls := "BoxSpans$Timed", name := "from", desc := "()I" } : Jvm.MethodName) ({ cls := "BoxSpans$Wish", name := "from", desc := "()I" } : Jvm.MethodName)) ∈ lw_all := lw_g (lw_at lw_m4 199 rfl) rfl
theorem q1020 : (Jvm.Cond.unhidden "BoxSpans$Wish" "from" "()I") ∈ lw_tbl := lw_at lw_m4 200 rfl
theorem q1021 : (Jvm.Cond.instanceMethod ({ cls := "BoxSpans$Wish", name := "from", desc := "()I" } : Jvm.MethodName)) ∈ lw_all := lw_g (lw_at lw_m4 201 rfl) rfl
theorem q1022 : (Jvm.Cond.publicMethod ({ cls := "BoxSpans$Wish", name := "from", desc := "()I" } : Jvm.MethodName)) ∈ lw_tbl := lw_at lw_m4 202 rfl
theorem q1023 : (Jvm.Cond.code ({ cls := "BoxSpans$Wish", name := "from", desc := "()I" } : Jvm.MethodName) prog_14_method_4_code (1 : Nat) (Option.some Jvm.ClassFile.FieldType.int)) ∈ lw_all := lw_g (lw_at lw_m4 203 rfl) rfl
theorem q1024 : (Jvm.Cond.methodLink "BoxSpans$Wish" (17 : Nat) ({ cls := "BoxSpans$Span", name := "from", desc := "()I" } : Jvm.MethodName)) ∈ lw_all := lw_g (lw_at lw_m4 204 rfl) rfl
theorem q1038 : (Jvm.Cond.selects "BoxSpans$Wish" ({ cls := "BoxSpans$Timed", name := "to", desc := "()I" } : Jvm.MethodName) ({ cls := "BoxSpans$Wish", name := "to", desc := "()I" } : Jvm.MethodName)) ∈ lw_all := lw_g (lw_at lw_m4 218 rfl) rfl
theorem q1039 : (Jvm.Cond.unhidden "BoxSpans$Wish" "to" "()I") ∈ lw_tbl := lw_at lw_m4 219 rfl
theorem q1040 : (Jvm.Cond.instanceMethod ({ cls := "BoxSpans$Wish", name := "to", desc := "()I" } : Jvm.MethodName)) ∈ lw_all := lw_g (lw_at lw_m4 220 rfl) rfl
theorem q1041 : (Jvm.Cond.publicMethod ({ cls := "BoxSpans$Wish", name := "to", desc := "()I" } : Jvm.MethodName)) ∈ lw_tbl := lw_at lw_m4 221 rfl
theorem q1042 : (Jvm.Cond.code ({ cls := "BoxSpans$Wish", name := "to", desc := "()I" } : Jvm.MethodName) prog_14_method_5_code (1 : Nat) (Option.some Jvm.ClassFile.FieldType.int)) ∈ lw_all := lw_g (lw_at lw_m4 222 rfl) rfl
theorem q1043 : (Jvm.Cond.methodLink "BoxSpans$Wish" (23 : Nat) ({ cls := "BoxSpans$Span", name := "to", desc := "()I" } : Jvm.MethodName)) ∈ lw_all := lw_g (lw_at lw_m4 223 rfl) rfl
theorem q1610 : (Jvm.Cond.instantiable "BoxSpans$Wish" (2 : Nat)) ∈ lw_all := lw_g (lw_at lw_m7 70 rfl) rfl
theorem q1612 : (Jvm.Cond.instanceMethod ({ cls := "BoxSpans$Wish", name := "<init>", desc := "(ILBoxSpans$Span;)V" } : Jvm.MethodName)) ∈ lw_all := lw_g (lw_at lw_m7 72 rfl) rfl
theorem q1613 : (Jvm.Cond.code ({ cls := "BoxSpans$Wish", name := "<init>", desc := "(ILBoxSpans$Span;)V" } : Jvm.MethodName) prog_14_method_1_code (3 : Nat) (Option.none : Option Jvm.ClassFile.FieldType)) ∈ lw_all := lw_g (lw_at lw_m7 73 rfl) rfl
theorem q1614 : (Jvm.Cond.methodLink "BoxSpans$Wish" (1 : Nat) ({ cls := "java/lang/Object", name := "<init>", desc := "()V" } : Jvm.MethodName)) ∈ lw_all := lw_g (lw_at lw_m7 74 rfl) rfl
theorem q1615 : (Jvm.Cond.fieldLink "BoxSpans$Wish" (7 : Nat) "BoxSpans$Wish" "party" "I") ∈ lw_all := lw_g (lw_at lw_m7 75 rfl) rfl
theorem q1616 : (Jvm.Cond.fieldLink "BoxSpans$Wish" (13 : Nat) "BoxSpans$Wish" "span" "LBoxSpans$Span;") ∈ lw_all := lw_g (lw_at lw_m7 76 rfl) rfl
theorem q1617 : (Jvm.Cond.laysFinal "BoxSpans$Wish" "BoxSpans$Wish" "party" "I") ∈ lw_all := lw_g (lw_at lw_m7 77 rfl) rfl
theorem q1618 : (Jvm.Cond.soleField "BoxSpans$Wish" "party") ∈ lw_all := lw_g (lw_at lw_m7 78 rfl) rfl
theorem q1619 : (Jvm.Cond.laysFinal "BoxSpans$Wish" "BoxSpans$Wish" "span" "LBoxSpans$Span;") ∈ lw_all := lw_g (lw_at lw_m7 79 rfl) rfl
theorem q1620 : (Jvm.Cond.soleField "BoxSpans$Wish" "span") ∈ lw_all := lw_g (lw_at lw_m7 80 rfl) rfl
theorem q1673 : (Jvm.Cond.instanceMethod ({ cls := "BoxSpans$Wish", name := "party", desc := "()I" } : Jvm.MethodName)) ∈ lw_all := lw_g (lw_at lw_m7 133 rfl) rfl
theorem q1674 : (Jvm.Cond.selects "BoxSpans$Wish" ({ cls := "BoxSpans$Wish", name := "party", desc := "()I" } : Jvm.MethodName) ({ cls := "BoxSpans$Wish", name := "party", desc := "()I" } : Jvm.MethodName)) ∈ lw_all := lw_g (lw_at lw_m7 134 rfl) rfl
theorem q1675 : (Jvm.Cond.code ({ cls := "BoxSpans$Wish", name := "party", desc := "()I" } : Jvm.MethodName) prog_14_method_2_code (1 : Nat) (Option.some Jvm.ClassFile.FieldType.int)) ∈ lw_all := lw_g (lw_at lw_m7 135 rfl) rfl
theorem q1748 : (Jvm.Cond.instanceMethod ({ cls := "BoxSpans$Wish", name := "endsAhead", desc := "(LBoxSpans$Wish;)Z" } : Jvm.MethodName)) ∈ lw_all := lw_g (lw_at lw_m7 208 rfl) rfl
theorem q1749 : (Jvm.Cond.selects "BoxSpans$Wish" ({ cls := "BoxSpans$Wish", name := "endsAhead", desc := "(LBoxSpans$Wish;)Z" } : Jvm.MethodName) ({ cls := "BoxSpans$Wish", name := "endsAhead", desc := "(LBoxSpans$Wish;)Z" } : Jvm.MethodName)) ∈ lw_all := lw_g (lw_at lw_m7 209 rfl) rfl
theorem q1750 : (Jvm.Cond.code ({ cls := "BoxSpans$Wish", name := "endsAhead", desc := "(LBoxSpans$Wish;)Z" } : Jvm.MethodName) prog_14_method_6_code (2 : Nat) (Option.some Jvm.ClassFile.FieldType.boolean)) ∈ lw_all := lw_g (lw_at lw_m7 210 rfl) rfl
theorem q1751 : (Jvm.Cond.methodLink "BoxSpans$Wish" (26 : Nat) ({ cls := "BoxSpans$Wish", name := "to", desc := "()I" } : Jvm.MethodName)) ∈ lw_all := lw_g (lw_at lw_m7 211 rfl) rfl
theorem q1752 : (Jvm.Cond.methodLink "BoxSpans$Wish" (27 : Nat) ({ cls := "BoxSpans$Wish", name := "from", desc := "()I" } : Jvm.MethodName)) ∈ lw_all := lw_g (lw_at lw_m7 212 rfl) rfl
theorem q1767 : (Jvm.Cond.instanceMethod ({ cls := "BoxSpans$Wish", name := "span", desc := "()LBoxSpans$Span;" } : Jvm.MethodName)) ∈ lw_all := lw_g (lw_at lw_m7 227 rfl) rfl
theorem q1768 : (Jvm.Cond.selects "BoxSpans$Wish" ({ cls := "BoxSpans$Wish", name := "span", desc := "()LBoxSpans$Span;" } : Jvm.MethodName) ({ cls := "BoxSpans$Wish", name := "span", desc := "()LBoxSpans$Span;" } : Jvm.MethodName)) ∈ lw_all := lw_g (lw_at lw_m7 228 rfl) rfl
theorem q1769 : (Jvm.Cond.code ({ cls := "BoxSpans$Wish", name := "span", desc := "()LBoxSpans$Span;" } : Jvm.MethodName) prog_14_method_3_code (1 : Nat) (Option.some (Jvm.ClassFile.FieldType.object "BoxSpans$Span"))) ∈ lw_all := lw_g (lw_at lw_m7 229 rfl) rfl
theorem q2073 : (Jvm.Cond.selects "BoxSpans$Wish" ({ cls := "java/lang/Object", name := "toString", desc := "()Ljava/lang/String;" } : Jvm.MethodName) ({ cls := "java/lang/Object", name := "toString", desc := "()Ljava/lang/String;" } : Jvm.MethodName)) ∈ lw_all := lw_g (lw_at lw_m9 53 rfl) rfl
theorem q3079 : (Jvm.Cond.selects "BoxSpans$Wish" ({ cls := "BoxSpans$Wish", name := "from", desc := "()I" } : Jvm.MethodName) ({ cls := "BoxSpans$Wish", name := "from", desc := "()I" } : Jvm.MethodName)) ∈ lw_all := lw_g (lw_at lw_m13 99 rfl) rfl
theorem q3080 : (Jvm.Cond.selects "BoxSpans$Wish" ({ cls := "BoxSpans$Wish", name := "to", desc := "()I" } : Jvm.MethodName) ({ cls := "BoxSpans$Wish", name := "to", desc := "()I" } : Jvm.MethodName)) ∈ lw_all := lw_g (lw_at lw_m13 100 rfl) rfl
theorem q3116 : (Jvm.Cond.castable "BoxSpans$Wish" "java/lang/Object") ∈ lw_tbl := lw_at lw_m13 136 rfl
theorem in_X8 : ∀ w ∈ wsX80, w ∈ lw_all := lw_in wsX80 [1617, 1619] (by decide +kernel) (by decide +kernel)
/-! BoxSpans$Runs -/
set_option maxRecDepth 100000
def RX9 : String := "BoxSpans$Runs"
def TX9 : u_T := fun k => match k with
  | _ => ("BoxSpans$Runs", "question", "LBoxSpans$Question;", true)
def tyX9 : Nat → FieldType := fun k => match k with
  | _ => .object "BoxSpans$Question"
abbrev wsX90 : List Cond := u_ws RX9 TX9 1
theorem nmX9 : ∀ a, a < 1 → ∀ b, b < 1 → a ≠ b → (TX9 a).2.1 ≠ (TX9 b).2.1 := by decide +kernel
theorem tyX9_ok : ∀ k, k < 1 → parseFieldDescriptor (TX9 k).2.2.1 = some (tyX9 k) := by decide +kernel
abbrev cX9_skips : ByteArray := prog_8_method_2_code
def yX9_skips : MethodName := ⟨RX9, "skips", "(IZ)I"⟩
def dkwX9_skips_1 : List UInt8 := [132, 3, 1, 167, 255, 232, 29, 172]
abbrev dktX9_skips_1 : List UInt8 := dkwX9_skips_1 ++ []
def dkwX9_skips_0 : List UInt8 := [27, 62, 29, 17, 2, 88, 162, 0, 23, 42, 180, 0, 9, 29, 185, 0, 15, 2, 0, 28, 160, 0, 9]
abbrev dktX9_skips_0 : List UInt8 := dkwX9_skips_0 ++ dktX9_skips_1
theorem dksX9_skips_0 : cX9_skips.data.toList.drop 0 = dktX9_skips_0 := by decide +kernel
theorem dksX9_skips_1 : cX9_skips.data.toList.drop 23 = dktX9_skips_1 := dk_seg dksX9_skips_0 23 rfl rfl
theorem dX9_skips_0 : decode cX9_skips 0 = .ok (.iload_n 1, 1) := dk_27 (dk_at dksX9_skips_0 0 rfl rfl)
theorem dX9_skips_1 : decode cX9_skips 1 = .ok (.istore_n 3, 1) := dk_62 (dk_at dksX9_skips_0 1 rfl rfl)
theorem dX9_skips_2 : decode cX9_skips 2 = .ok (.iload_n 3, 1) := dk_29 (dk_at dksX9_skips_0 2 rfl rfl)
theorem dX9_skips_3 : decode cX9_skips 3 = .ok (.sipush 600, 3) := dk_17 2 88 (dk_at dksX9_skips_0 3 rfl rfl)
theorem dX9_skips_6 : decode cX9_skips 6 = .ok (.if_icmp .ge 23, 3) := dk_162 0 23 (dk_at dksX9_skips_0 6 rfl rfl)
theorem dX9_skips_9 : decode cX9_skips 9 = .ok (.aload_n 0, 1) := dk_42 (dk_at dksX9_skips_0 9 rfl rfl)
theorem dX9_skips_10 : decode cX9_skips 10 = .ok (.getfield 9, 3) := dk_180 0 9 (dk_at dksX9_skips_0 10 rfl rfl)
theorem dX9_skips_13 : decode cX9_skips 13 = .ok (.iload_n 3, 1) := dk_29 (dk_at dksX9_skips_0 13 rfl rfl)
theorem dX9_skips_14 : decode cX9_skips 14 = .ok (.invokeinterface 15 2, 5) := by decide +kernel
theorem dX9_skips_19 : decode cX9_skips 19 = .ok (.iload_n 2, 1) := dk_28 (dk_at dksX9_skips_0 19 rfl rfl)
theorem dX9_skips_20 : decode cX9_skips 20 = .ok (.if_icmp .ne 9, 3) := dk_160 0 9 (dk_at dksX9_skips_0 20 rfl rfl)
theorem dX9_skips_23 : decode cX9_skips 23 = .ok (.iinc 3 1, 3) := dk_132 3 1 (dk_at dksX9_skips_1 0 rfl rfl)
theorem dX9_skips_26 : decode cX9_skips 26 = .ok (.goto (-24), 3) := dk_167 255 232 (dk_at dksX9_skips_1 3 rfl rfl)
theorem dX9_skips_29 : decode cX9_skips 29 = .ok (.iload_n 3, 1) := dk_29 (dk_at dksX9_skips_1 6 rfl rfl)
theorem dX9_skips_30 : decode cX9_skips 30 = .ok (.ireturn, 1) := dk_172 (dk_at dksX9_skips_1 7 rfl rfl)
abbrev cX9_init : ByteArray := prog_8_method_1_code
def yX9_init : MethodName := ⟨RX9, "<init>", "(LBoxSpans$Question;)V"⟩
def dkwX9_init_0 : List UInt8 := [42, 183, 0, 3, 42, 43, 181, 0, 9, 177]
abbrev dktX9_init_0 : List UInt8 := dkwX9_init_0 ++ []
theorem dksX9_init_0 : cX9_init.data.toList.drop 0 = dktX9_init_0 := by decide +kernel
theorem dX9_init_0 : decode cX9_init 0 = .ok (.aload_n 0, 1) := dk_42 (dk_at dksX9_init_0 0 rfl rfl)
theorem dX9_init_1 : decode cX9_init 1 = .ok (.invokespecial 3, 3) := dk_183 0 3 (dk_at dksX9_init_0 1 rfl rfl)
theorem dX9_init_4 : decode cX9_init 4 = .ok (.aload_n 0, 1) := dk_42 (dk_at dksX9_init_0 4 rfl rfl)
theorem dX9_init_5 : decode cX9_init 5 = .ok (.aload_n 1, 1) := dk_43 (dk_at dksX9_init_0 5 rfl rfl)
theorem dX9_init_6 : decode cX9_init 6 = .ok (.putfield 9, 3) := dk_181 0 9 (dk_at dksX9_init_0 6 rfl rfl)
theorem dX9_init_9 : decode cX9_init 9 = .ok (.return_, 1) := dk_177 (dk_at dksX9_init_0 9 rfl rfl)
abbrev cX9_many : ByteArray := prog_8_method_4_code
def yX9_many : MethodName := ⟨RX9, "many", "()I"⟩
def dkwX9_many_1 : List UInt8 := [192, 0, 40, 78, 27, 45, 182, 0, 42, 158, 0, 7, 4, 167, 0, 4, 3, 96, 60, 167, 255, 222, 27, 172]
abbrev dktX9_many_1 : List UInt8 := dkwX9_many_1 ++ []
def dkwX9_many_0 : List UInt8 := [3, 60, 42, 182, 0, 26, 77, 44, 185, 0, 30, 1, 0, 153, 0, 31, 44, 185, 0, 36, 1, 0]
abbrev dktX9_many_0 : List UInt8 := dkwX9_many_0 ++ dktX9_many_1
theorem dksX9_many_0 : cX9_many.data.toList.drop 0 = dktX9_many_0 := by decide +kernel
theorem dksX9_many_1 : cX9_many.data.toList.drop 22 = dktX9_many_1 := dk_seg dksX9_many_0 22 rfl rfl
theorem dX9_many_0 : decode cX9_many 0 = .ok (.iconst 0, 1) := dk_3 (dk_at dksX9_many_0 0 rfl rfl)
theorem dX9_many_1 : decode cX9_many 1 = .ok (.istore_n 1, 1) := dk_60 (dk_at dksX9_many_0 1 rfl rfl)
theorem dX9_many_2 : decode cX9_many 2 = .ok (.aload_n 0, 1) := dk_42 (dk_at dksX9_many_0 2 rfl rfl)
theorem dX9_many_3 : decode cX9_many 3 = .ok (.invokevirtual 26, 3) := dk_182 0 26 (dk_at dksX9_many_0 3 rfl rfl)
theorem dX9_many_6 : decode cX9_many 6 = .ok (.astore_n 2, 1) := dk_77 (dk_at dksX9_many_0 6 rfl rfl)
theorem dX9_many_7 : decode cX9_many 7 = .ok (.aload_n 2, 1) := dk_44 (dk_at dksX9_many_0 7 rfl rfl)
theorem dX9_many_8 : decode cX9_many 8 = .ok (.invokeinterface 30 1, 5) := by decide +kernel
theorem dX9_many_13 : decode cX9_many 13 = .ok (.ifCond .eq 31, 3) := dk_153 0 31 (dk_at dksX9_many_0 13 rfl rfl)
theorem dX9_many_16 : decode cX9_many 16 = .ok (.aload_n 2, 1) := dk_44 (dk_at dksX9_many_0 16 rfl rfl)
theorem dX9_many_17 : decode cX9_many 17 = .ok (.invokeinterface 36 1, 5) := by decide +kernel
theorem dX9_many_22 : decode cX9_many 22 = .ok (.checkcast 40, 3) := dk_192 0 40 (dk_at dksX9_many_1 0 rfl rfl)
theorem dX9_many_25 : decode cX9_many 25 = .ok (.astore_n 3, 1) := dk_78 (dk_at dksX9_many_1 3 rfl rfl)
theorem dX9_many_26 : decode cX9_many 26 = .ok (.iload_n 1, 1) := dk_27 (dk_at dksX9_many_1 4 rfl rfl)
theorem dX9_many_27 : decode cX9_many 27 = .ok (.aload_n 3, 1) := dk_45 (dk_at dksX9_many_1 5 rfl rfl)
theorem dX9_many_28 : decode cX9_many 28 = .ok (.invokevirtual 42, 3) := dk_182 0 42 (dk_at dksX9_many_1 6 rfl rfl)
theorem dX9_many_31 : decode cX9_many 31 = .ok (.ifCond .le 7, 3) := dk_158 0 7 (dk_at dksX9_many_1 9 rfl rfl)
theorem dX9_many_34 : decode cX9_many 34 = .ok (.iconst 1, 1) := dk_4 (dk_at dksX9_many_1 12 rfl rfl)
theorem dX9_many_35 : decode cX9_many 35 = .ok (.goto 4, 3) := dk_167 0 4 (dk_at dksX9_many_1 13 rfl rfl)
theorem dX9_many_38 : decode cX9_many 38 = .ok (.iconst 0, 1) := dk_3 (dk_at dksX9_many_1 16 rfl rfl)
theorem dX9_many_39 : decode cX9_many 39 = .ok (.iadd, 1) := dk_96 (dk_at dksX9_many_1 17 rfl rfl)
theorem dX9_many_40 : decode cX9_many 40 = .ok (.istore_n 1, 1) := dk_60 (dk_at dksX9_many_1 18 rfl rfl)
theorem dX9_many_41 : decode cX9_many 41 = .ok (.goto (-34), 3) := dk_167 255 222 (dk_at dksX9_many_1 19 rfl rfl)
theorem dX9_many_44 : decode cX9_many 44 = .ok (.iload_n 1, 1) := dk_27 (dk_at dksX9_many_1 22 rfl rfl)
theorem dX9_many_45 : decode cX9_many 45 = .ok (.ireturn, 1) := dk_172 (dk_at dksX9_many_1 23 rfl rfl)
abbrev cX9_iterator : ByteArray := prog_8_method_3_code
def yX9_iterator : MethodName := ⟨RX9, "iterator", "()Ljava/util/Iterator;"⟩
def dkwX9_iterator_0 : List UInt8 := [187, 0, 21, 89, 42, 183, 0, 23, 176]
abbrev dktX9_iterator_0 : List UInt8 := dkwX9_iterator_0 ++ []
theorem dksX9_iterator_0 : cX9_iterator.data.toList.drop 0 = dktX9_iterator_0 := by decide +kernel
theorem dX9_iterator_0 : decode cX9_iterator 0 = .ok (.new 21, 3) := dk_187 0 21 (dk_at dksX9_iterator_0 0 rfl rfl)
theorem dX9_iterator_3 : decode cX9_iterator 3 = .ok (.dup, 1) := dk_89 (dk_at dksX9_iterator_0 3 rfl rfl)
theorem dX9_iterator_4 : decode cX9_iterator 4 = .ok (.aload_n 0, 1) := dk_42 (dk_at dksX9_iterator_0 4 rfl rfl)
theorem dX9_iterator_5 : decode cX9_iterator 5 = .ok (.invokespecial 23, 3) := dk_183 0 23 (dk_at dksX9_iterator_0 5 rfl rfl)
theorem dX9_iterator_8 : decode cX9_iterator 8 = .ok (.areturn, 1) := dk_176 (dk_at dksX9_iterator_0 8 rfl rfl)
abbrev cX9_longest : ByteArray := prog_8_method_5_code
def yX9_longest : MethodName := ⟨RX9, "longest", "()I"⟩
def dkwX9_longest_1 : List UInt8 := [192, 0, 40, 78, 27, 45, 182, 0, 42, 184, 0, 46, 60, 167, 255, 228, 27, 172]
abbrev dktX9_longest_1 : List UInt8 := dkwX9_longest_1 ++ []
def dkwX9_longest_0 : List UInt8 := [3, 60, 42, 182, 0, 26, 77, 44, 185, 0, 30, 1, 0, 153, 0, 25, 44, 185, 0, 36, 1, 0]
abbrev dktX9_longest_0 : List UInt8 := dkwX9_longest_0 ++ dktX9_longest_1
theorem dksX9_longest_0 : cX9_longest.data.toList.drop 0 = dktX9_longest_0 := by decide +kernel
theorem dksX9_longest_1 : cX9_longest.data.toList.drop 22 = dktX9_longest_1 := dk_seg dksX9_longest_0 22 rfl rfl
theorem dX9_longest_0 : decode cX9_longest 0 = .ok (.iconst 0, 1) := dk_3 (dk_at dksX9_longest_0 0 rfl rfl)
theorem dX9_longest_1 : decode cX9_longest 1 = .ok (.istore_n 1, 1) := dk_60 (dk_at dksX9_longest_0 1 rfl rfl)
theorem dX9_longest_2 : decode cX9_longest 2 = .ok (.aload_n 0, 1) := dk_42 (dk_at dksX9_longest_0 2 rfl rfl)
theorem dX9_longest_3 : decode cX9_longest 3 = .ok (.invokevirtual 26, 3) := dk_182 0 26 (dk_at dksX9_longest_0 3 rfl rfl)
theorem dX9_longest_6 : decode cX9_longest 6 = .ok (.astore_n 2, 1) := dk_77 (dk_at dksX9_longest_0 6 rfl rfl)
theorem dX9_longest_7 : decode cX9_longest 7 = .ok (.aload_n 2, 1) := dk_44 (dk_at dksX9_longest_0 7 rfl rfl)
theorem dX9_longest_8 : decode cX9_longest 8 = .ok (.invokeinterface 30 1, 5) := by decide +kernel
theorem dX9_longest_13 : decode cX9_longest 13 = .ok (.ifCond .eq 25, 3) := dk_153 0 25 (dk_at dksX9_longest_0 13 rfl rfl)
theorem dX9_longest_16 : decode cX9_longest 16 = .ok (.aload_n 2, 1) := dk_44 (dk_at dksX9_longest_0 16 rfl rfl)
theorem dX9_longest_17 : decode cX9_longest 17 = .ok (.invokeinterface 36 1, 5) := by decide +kernel
theorem dX9_longest_22 : decode cX9_longest 22 = .ok (.checkcast 40, 3) := dk_192 0 40 (dk_at dksX9_longest_1 0 rfl rfl)
theorem dX9_longest_25 : decode cX9_longest 25 = .ok (.astore_n 3, 1) := dk_78 (dk_at dksX9_longest_1 3 rfl rfl)
theorem dX9_longest_26 : decode cX9_longest 26 = .ok (.iload_n 1, 1) := dk_27 (dk_at dksX9_longest_1 4 rfl rfl)
theorem dX9_longest_27 : decode cX9_longest 27 = .ok (.aload_n 3, 1) := dk_45 (dk_at dksX9_longest_1 5 rfl rfl)
theorem dX9_longest_28 : decode cX9_longest 28 = .ok (.invokevirtual 42, 3) := dk_182 0 42 (dk_at dksX9_longest_1 6 rfl rfl)
theorem dX9_longest_31 : decode cX9_longest 31 = .ok (.invokestatic 46, 3) := dk_184 0 46 (dk_at dksX9_longest_1 9 rfl rfl)
theorem dX9_longest_34 : decode cX9_longest 34 = .ok (.istore_n 1, 1) := dk_60 (dk_at dksX9_longest_1 12 rfl rfl)
theorem dX9_longest_35 : decode cX9_longest 35 = .ok (.goto (-28), 3) := dk_167 255 228 (dk_at dksX9_longest_1 13 rfl rfl)
theorem dX9_longest_38 : decode cX9_longest 38 = .ok (.iload_n 1, 1) := dk_27 (dk_at dksX9_longest_1 16 rfl rfl)
theorem dX9_longest_39 : decode cX9_longest 39 = .ok (.ireturn, 1) := dk_172 (dk_at dksX9_longest_1 17 rfl rfl)
abbrev cX9_at : ByteArray := prog_8_method_6_code
def yX9_at : MethodName := ⟨RX9, "at", "(I)LBoxSpans$Span;"⟩
def dkwX9_at_1 : List UInt8 := [192, 0, 40, 58, 4, 28, 27, 160, 0, 6, 25, 4, 176, 132, 2, 1, 167, 255, 225, 1, 176]
abbrev dktX9_at_1 : List UInt8 := dkwX9_at_1 ++ []
def dkwX9_at_0 : List UInt8 := [3, 61, 42, 182, 0, 26, 78, 45, 185, 0, 30, 1, 0, 153, 0, 28, 45, 185, 0, 36, 1, 0]
abbrev dktX9_at_0 : List UInt8 := dkwX9_at_0 ++ dktX9_at_1
theorem dksX9_at_0 : cX9_at.data.toList.drop 0 = dktX9_at_0 := by decide +kernel
theorem dksX9_at_1 : cX9_at.data.toList.drop 22 = dktX9_at_1 := dk_seg dksX9_at_0 22 rfl rfl
theorem dX9_at_0 : decode cX9_at 0 = .ok (.iconst 0, 1) := dk_3 (dk_at dksX9_at_0 0 rfl rfl)
theorem dX9_at_1 : decode cX9_at 1 = .ok (.istore_n 2, 1) := dk_61 (dk_at dksX9_at_0 1 rfl rfl)
theorem dX9_at_2 : decode cX9_at 2 = .ok (.aload_n 0, 1) := dk_42 (dk_at dksX9_at_0 2 rfl rfl)
theorem dX9_at_3 : decode cX9_at 3 = .ok (.invokevirtual 26, 3) := dk_182 0 26 (dk_at dksX9_at_0 3 rfl rfl)
theorem dX9_at_6 : decode cX9_at 6 = .ok (.astore_n 3, 1) := dk_78 (dk_at dksX9_at_0 6 rfl rfl)
theorem dX9_at_7 : decode cX9_at 7 = .ok (.aload_n 3, 1) := dk_45 (dk_at dksX9_at_0 7 rfl rfl)
theorem dX9_at_8 : decode cX9_at 8 = .ok (.invokeinterface 30 1, 5) := by decide +kernel
theorem dX9_at_13 : decode cX9_at 13 = .ok (.ifCond .eq 28, 3) := dk_153 0 28 (dk_at dksX9_at_0 13 rfl rfl)
theorem dX9_at_16 : decode cX9_at 16 = .ok (.aload_n 3, 1) := dk_45 (dk_at dksX9_at_0 16 rfl rfl)
theorem dX9_at_17 : decode cX9_at 17 = .ok (.invokeinterface 36 1, 5) := by decide +kernel
theorem dX9_at_22 : decode cX9_at 22 = .ok (.checkcast 40, 3) := dk_192 0 40 (dk_at dksX9_at_1 0 rfl rfl)
theorem dX9_at_25 : decode cX9_at 25 = .ok (.astore 4, 2) := dk_58 4 (dk_at dksX9_at_1 3 rfl rfl)
theorem dX9_at_27 : decode cX9_at 27 = .ok (.iload_n 2, 1) := dk_28 (dk_at dksX9_at_1 5 rfl rfl)
theorem dX9_at_28 : decode cX9_at 28 = .ok (.iload_n 1, 1) := dk_27 (dk_at dksX9_at_1 6 rfl rfl)
theorem dX9_at_29 : decode cX9_at 29 = .ok (.if_icmp .ne 6, 3) := dk_160 0 6 (dk_at dksX9_at_1 7 rfl rfl)
theorem dX9_at_32 : decode cX9_at 32 = .ok (.aload 4, 2) := dk_25 4 (dk_at dksX9_at_1 10 rfl rfl)
theorem dX9_at_34 : decode cX9_at 34 = .ok (.areturn, 1) := dk_176 (dk_at dksX9_at_1 12 rfl rfl)
theorem dX9_at_35 : decode cX9_at 35 = .ok (.iinc 2 1, 3) := dk_132 2 1 (dk_at dksX9_at_1 13 rfl rfl)
theorem dX9_at_38 : decode cX9_at 38 = .ok (.goto (-31), 3) := dk_167 255 225 (dk_at dksX9_at_1 16 rfl rfl)
theorem dX9_at_41 : decode cX9_at 41 = .ok (.aconst_null, 1) := dk_1 (dk_at dksX9_at_1 19 rfl rfl)
theorem dX9_at_42 : decode cX9_at 42 = .ok (.areturn, 1) := dk_176 (dk_at dksX9_at_1 20 rfl rfl)
abbrev cX9_first : ByteArray := prog_8_method_7_code
def yX9_first : MethodName := ⟨RX9, "first", "(I)LBoxSpans$Span;"⟩
def dkwX9_first_1 : List UInt8 := [45, 182, 0, 42, 27, 161, 0, 5, 45, 176, 167, 255, 227, 1, 176]
abbrev dktX9_first_1 : List UInt8 := dkwX9_first_1 ++ []
def dkwX9_first_0 : List UInt8 := [42, 182, 0, 26, 77, 44, 185, 0, 30, 1, 0, 153, 0, 26, 44, 185, 0, 36, 1, 0, 192, 0, 40, 78]
abbrev dktX9_first_0 : List UInt8 := dkwX9_first_0 ++ dktX9_first_1
theorem dksX9_first_0 : cX9_first.data.toList.drop 0 = dktX9_first_0 := by decide +kernel
theorem dksX9_first_1 : cX9_first.data.toList.drop 24 = dktX9_first_1 := dk_seg dksX9_first_0 24 rfl rfl
theorem dX9_first_0 : decode cX9_first 0 = .ok (.aload_n 0, 1) := dk_42 (dk_at dksX9_first_0 0 rfl rfl)
theorem dX9_first_1 : decode cX9_first 1 = .ok (.invokevirtual 26, 3) := dk_182 0 26 (dk_at dksX9_first_0 1 rfl rfl)
theorem dX9_first_4 : decode cX9_first 4 = .ok (.astore_n 2, 1) := dk_77 (dk_at dksX9_first_0 4 rfl rfl)
theorem dX9_first_5 : decode cX9_first 5 = .ok (.aload_n 2, 1) := dk_44 (dk_at dksX9_first_0 5 rfl rfl)
theorem dX9_first_6 : decode cX9_first 6 = .ok (.invokeinterface 30 1, 5) := by decide +kernel
theorem dX9_first_11 : decode cX9_first 11 = .ok (.ifCond .eq 26, 3) := dk_153 0 26 (dk_at dksX9_first_0 11 rfl rfl)
theorem dX9_first_14 : decode cX9_first 14 = .ok (.aload_n 2, 1) := dk_44 (dk_at dksX9_first_0 14 rfl rfl)
theorem dX9_first_15 : decode cX9_first 15 = .ok (.invokeinterface 36 1, 5) := by decide +kernel
theorem dX9_first_20 : decode cX9_first 20 = .ok (.checkcast 40, 3) := dk_192 0 40 (dk_at dksX9_first_0 20 rfl rfl)
theorem dX9_first_23 : decode cX9_first 23 = .ok (.astore_n 3, 1) := dk_78 (dk_at dksX9_first_0 23 rfl rfl)
theorem dX9_first_24 : decode cX9_first 24 = .ok (.aload_n 3, 1) := dk_45 (dk_at dksX9_first_1 0 rfl rfl)
theorem dX9_first_25 : decode cX9_first 25 = .ok (.invokevirtual 42, 3) := dk_182 0 42 (dk_at dksX9_first_1 1 rfl rfl)
theorem dX9_first_28 : decode cX9_first 28 = .ok (.iload_n 1, 1) := dk_27 (dk_at dksX9_first_1 4 rfl rfl)
theorem dX9_first_29 : decode cX9_first 29 = .ok (.if_icmp .lt 5, 3) := dk_161 0 5 (dk_at dksX9_first_1 5 rfl rfl)
theorem dX9_first_32 : decode cX9_first 32 = .ok (.aload_n 3, 1) := dk_45 (dk_at dksX9_first_1 8 rfl rfl)
theorem dX9_first_33 : decode cX9_first 33 = .ok (.areturn, 1) := dk_176 (dk_at dksX9_first_1 9 rfl rfl)
theorem dX9_first_34 : decode cX9_first 34 = .ok (.goto (-29), 3) := dk_167 255 227 (dk_at dksX9_first_1 10 rfl rfl)
theorem dX9_first_37 : decode cX9_first 37 = .ok (.aconst_null, 1) := dk_1 (dk_at dksX9_first_1 13 rfl rfl)
theorem dX9_first_38 : decode cX9_first 38 = .ok (.areturn, 1) := dk_176 (dk_at dksX9_first_1 14 rfl rfl)
theorem q142 : (Jvm.Cond.initialized "BoxSpans$Runs") ∈ lw_all := lw_g (lw_at lw_m1 42 rfl) rfl
theorem q810 : (Jvm.Cond.privateMethod ({ cls := "BoxSpans$Runs", name := "skips", desc := "(IZ)I" } : Jvm.MethodName)) ∈ lw_tbl := lw_at lw_m3 230 rfl
theorem q811 : (Jvm.Cond.instanceMethod ({ cls := "BoxSpans$Runs", name := "skips", desc := "(IZ)I" } : Jvm.MethodName)) ∈ lw_all := lw_g (lw_at lw_m3 231 rfl) rfl
theorem q812 : (Jvm.Cond.instantiable "BoxSpans$Runs" (1 : Nat)) ∈ lw_all := lw_g (lw_at lw_m3 232 rfl) rfl
theorem q813 : (Jvm.Cond.code ({ cls := "BoxSpans$Runs", name := "skips", desc := "(IZ)I" } : Jvm.MethodName) prog_8_method_2_code (4 : Nat) (Option.some Jvm.ClassFile.FieldType.int)) ∈ lw_all := lw_g (lw_at lw_m3 233 rfl) rfl
theorem q814 : (Jvm.Cond.interfaceEntry "BoxSpans$Runs" (15 : Nat)) ∈ lw_tbl := lw_at lw_m3 234 rfl
theorem q815 : (Jvm.Cond.methodLink "BoxSpans$Runs" (15 : Nat) ({ cls := "BoxSpans$Question", name := "is", desc := "(I)Z" } : Jvm.MethodName)) ∈ lw_all := lw_g (lw_at lw_m3 235 rfl) rfl
theorem q906 : (Jvm.Cond.selects "BoxSpans$Runs" ({ cls := "java/lang/Object", name := "getClass", desc := "()Ljava/lang/Class;" } : Jvm.MethodName) ({ cls := "java/lang/Object", name := "getClass", desc := "()Ljava/lang/Class;" } : Jvm.MethodName)) ∈ lw_all := lw_g (lw_at lw_m4 86 rfl) rfl
theorem q1796 : (Jvm.Cond.instanceMethod ({ cls := "BoxSpans$Runs", name := "<init>", desc := "(LBoxSpans$Question;)V" } : Jvm.MethodName)) ∈ lw_all := lw_g (lw_at lw_m8 16 rfl) rfl
theorem q1797 : (Jvm.Cond.code ({ cls := "BoxSpans$Runs", name := "<init>", desc := "(LBoxSpans$Question;)V" } : Jvm.MethodName) prog_8_method_1_code (2 : Nat) (Option.none : Option Jvm.ClassFile.FieldType)) ∈ lw_all := lw_g (lw_at lw_m8 17 rfl) rfl
theorem q1798 : (Jvm.Cond.methodLink "BoxSpans$Runs" (3 : Nat) ({ cls := "java/lang/Object", name := "<init>", desc := "()V" } : Jvm.MethodName)) ∈ lw_all := lw_g (lw_at lw_m8 18 rfl) rfl
theorem q1799 : (Jvm.Cond.fieldLink "BoxSpans$Runs" (9 : Nat) "BoxSpans$Runs" "question" "LBoxSpans$Question;") ∈ lw_all := lw_g (lw_at lw_m8 19 rfl) rfl
theorem q1800 : (Jvm.Cond.laysFinal "BoxSpans$Runs" "BoxSpans$Runs" "question" "LBoxSpans$Question;") ∈ lw_all := lw_g (lw_at lw_m8 20 rfl) rfl
theorem q1801 : (Jvm.Cond.soleField "BoxSpans$Runs" "question") ∈ lw_all := lw_g (lw_at lw_m8 21 rfl) rfl
theorem q1802 : (Jvm.Cond.superclass "BoxSpans$Runs" "java/lang/Object") ∈ lw_all := lw_g (lw_at lw_m8 22 rfl) rfl
theorem q1804 : (Jvm.Cond.instanceMethod ({ cls := "BoxSpans$Runs", name := "many", desc := "()I" } : Jvm.MethodName)) ∈ lw_all := lw_g (lw_at lw_m8 24 rfl) rfl
theorem q1805 : (Jvm.Cond.selects "BoxSpans$Runs" ({ cls := "BoxSpans$Runs", name := "many", desc := "()I" } : Jvm.MethodName) ({ cls := "BoxSpans$Runs", name := "many", desc := "()I" } : Jvm.MethodName)) ∈ lw_all := lw_g (lw_at lw_m8 25 rfl) rfl
theorem q1806 : (Jvm.Cond.code ({ cls := "BoxSpans$Runs", name := "many", desc := "()I" } : Jvm.MethodName) prog_8_method_4_code (4 : Nat) (Option.some Jvm.ClassFile.FieldType.int)) ∈ lw_all := lw_g (lw_at lw_m8 26 rfl) rfl
theorem q1807 : (Jvm.Cond.methodLink "BoxSpans$Runs" (26 : Nat) ({ cls := "BoxSpans$Runs", name := "iterator", desc := "()Ljava/util/Iterator;" } : Jvm.MethodName)) ∈ lw_all := lw_g (lw_at lw_m8 27 rfl) rfl
theorem q1808 : (Jvm.Cond.instanceMethod ({ cls := "BoxSpans$Runs", name := "iterator", desc := "()Ljava/util/Iterator;" } : Jvm.MethodName)) ∈ lw_all := lw_g (lw_at lw_m8 28 rfl) rfl
theorem q1809 : (Jvm.Cond.selects "BoxSpans$Runs" ({ cls := "BoxSpans$Runs", name := "iterator", desc := "()Ljava/util/Iterator;" } : Jvm.MethodName) ({ cls := "BoxSpans$Runs", name := "iterator", desc := "()Ljava/util/Iterator;" } : Jvm.MethodName)) ∈ lw_all := lw_g (lw_at lw_m8 29 rfl) rfl
theorem q1810 : (Jvm.Cond.code ({ cls := "BoxSpans$Runs", name := "iterator", desc := "()Ljava/util/Iterator;" } : Jvm.MethodName) prog_8_method_3_code (1 : Nat) (Option.some (Jvm.ClassFile.FieldType.object "java/util/Iterator"))) ∈ lw_all := lw_g (lw_at lw_m8 30 rfl) rfl
theorem q1811 : (Jvm.Cond.classLink "BoxSpans$Runs" (21 : Nat) "BoxSpans$Runs$1") ∈ lw_all := lw_g (lw_at lw_m8 31 rfl) rfl
theorem q1813 : (Jvm.Cond.methodLink "BoxSpans$Runs" (23 : Nat) ({ cls := "BoxSpans$Runs$1", name := "<init>", desc := "(LBoxSpans$Runs;)V" } : Jvm.MethodName)) ∈ lw_all := lw_g (lw_at lw_m8 33 rfl) rfl
theorem q1824 : (Jvm.Cond.interfaceEntry "BoxSpans$Runs" (30 : Nat)) ∈ lw_tbl := lw_at lw_m8 44 rfl
theorem q1825 : (Jvm.Cond.methodLink "BoxSpans$Runs" (30 : Nat) ({ cls := "java/util/Iterator", name := "hasNext", desc := "()Z" } : Jvm.MethodName)) ∈ lw_all := lw_g (lw_at lw_m8 45 rfl) rfl
theorem q1826 : (Jvm.Cond.interfaceEntry "BoxSpans$Runs" (36 : Nat)) ∈ lw_tbl := lw_at lw_m8 46 rfl
theorem q1827 : (Jvm.Cond.methodLink "BoxSpans$Runs" (36 : Nat) ({ cls := "java/util/Iterator", name := "next", desc := "()Ljava/lang/Object;" } : Jvm.MethodName)) ∈ lw_all := lw_g (lw_at lw_m8 47 rfl) rfl
theorem q1828 : (Jvm.Cond.classLink "BoxSpans$Runs" (40 : Nat) "BoxSpans$Span") ∈ lw_all := lw_g (lw_at lw_m8 48 rfl) rfl
theorem q1836 : (Jvm.Cond.instanceMethod ({ cls := "BoxSpans$Runs", name := "longest", desc := "()I" } : Jvm.MethodName)) ∈ lw_all := lw_g (lw_at lw_m8 56 rfl) rfl
theorem q1837 : (Jvm.Cond.selects "BoxSpans$Runs" ({ cls := "BoxSpans$Runs", name := "longest", desc := "()I" } : Jvm.MethodName) ({ cls := "BoxSpans$Runs", name := "longest", desc := "()I" } : Jvm.MethodName)) ∈ lw_all := lw_g (lw_at lw_m8 57 rfl) rfl
theorem q1838 : (Jvm.Cond.code ({ cls := "BoxSpans$Runs", name := "longest", desc := "()I" } : Jvm.MethodName) prog_8_method_5_code (4 : Nat) (Option.some Jvm.ClassFile.FieldType.int)) ∈ lw_all := lw_g (lw_at lw_m8 58 rfl) rfl
theorem q1839 : (Jvm.Cond.methodLink "BoxSpans$Runs" (46 : Nat) ({ cls := "java/lang/Math", name := "max", desc := "(II)I" } : Jvm.MethodName)) ∈ lw_all := lw_g (lw_at lw_m8 59 rfl) rfl
theorem q1851 : (Jvm.Cond.instanceMethod ({ cls := "BoxSpans$Runs", name := "at", desc := "(I)LBoxSpans$Span;" } : Jvm.MethodName)) ∈ lw_all := lw_g (lw_at lw_m8 71 rfl) rfl
theorem q1852 : (Jvm.Cond.selects "BoxSpans$Runs" ({ cls := "BoxSpans$Runs", name := "at", desc := "(I)LBoxSpans$Span;" } : Jvm.MethodName) ({ cls := "BoxSpans$Runs", name := "at", desc := "(I)LBoxSpans$Span;" } : Jvm.MethodName)) ∈ lw_all := lw_g (lw_at lw_m8 72 rfl) rfl
theorem q1853 : (Jvm.Cond.code ({ cls := "BoxSpans$Runs", name := "at", desc := "(I)LBoxSpans$Span;" } : Jvm.MethodName) prog_8_method_6_code (5 : Nat) (Option.some (Jvm.ClassFile.FieldType.object "BoxSpans$Span"))) ∈ lw_all := lw_g (lw_at lw_m8 73 rfl) rfl
theorem q1873 : (Jvm.Cond.instanceMethod ({ cls := "BoxSpans$Runs", name := "first", desc := "(I)LBoxSpans$Span;" } : Jvm.MethodName)) ∈ lw_all := lw_g (lw_at lw_m8 93 rfl) rfl
theorem q1874 : (Jvm.Cond.selects "BoxSpans$Runs" ({ cls := "BoxSpans$Runs", name := "first", desc := "(I)LBoxSpans$Span;" } : Jvm.MethodName) ({ cls := "BoxSpans$Runs", name := "first", desc := "(I)LBoxSpans$Span;" } : Jvm.MethodName)) ∈ lw_all := lw_g (lw_at lw_m8 94 rfl) rfl
theorem q1875 : (Jvm.Cond.code ({ cls := "BoxSpans$Runs", name := "first", desc := "(I)LBoxSpans$Span;" } : Jvm.MethodName) prog_8_method_7_code (4 : Nat) (Option.some (Jvm.ClassFile.FieldType.object "BoxSpans$Span"))) ∈ lw_all := lw_g (lw_at lw_m8 95 rfl) rfl
theorem q2068 : (Jvm.Cond.selects "BoxSpans$Runs" ({ cls := "java/lang/Object", name := "toString", desc := "()Ljava/lang/String;" } : Jvm.MethodName) ({ cls := "java/lang/Object", name := "toString", desc := "()Ljava/lang/String;" } : Jvm.MethodName)) ∈ lw_all := lw_g (lw_at lw_m9 48 rfl) rfl
theorem q3117 : (Jvm.Cond.castable "BoxSpans$Runs" "java/lang/Object") ∈ lw_tbl := lw_at lw_m13 137 rfl
theorem in_X9 : ∀ w ∈ wsX90, w ∈ lw_all := lw_in wsX90 [1800] (by decide +kernel) (by decide +kernel)
/-! BoxSpans$Runs$1 -/
set_option maxRecDepth 100000
def RX10 : String := "BoxSpans$Runs$1"
def TX10 : u_T := fun k => match k with
  | 0 => ("BoxSpans$Runs$1", "next", "I", false)
  | _ => ("BoxSpans$Runs$1", "this$0", "LBoxSpans$Runs;", true)
def tyX10 : Nat → FieldType := fun k => match k with
  | 0 => .int
  | _ => .object "BoxSpans$Runs"
abbrev wsX100 : List Cond := u_ws RX10 TX10 2
theorem nmX10 : ∀ a, a < 2 → ∀ b, b < 2 → a ≠ b → (TX10 a).2.1 ≠ (TX10 b).2.1 := by decide +kernel
theorem tyX10_ok : ∀ k, k < 2 → parseFieldDescriptor (TX10 k).2.2.1 = some (tyX10 k) := by decide +kernel
abbrev cX10_hasNext : ByteArray := prog_9_method_2_code
def yX10_hasNext : MethodName := ⟨RX10, "hasNext", "()Z"⟩
def dkwX10_hasNext_0 : List UInt8 := [42, 180, 0, 21, 17, 2, 88, 162, 0, 7, 4, 167, 0, 4, 3, 172]
abbrev dktX10_hasNext_0 : List UInt8 := dkwX10_hasNext_0 ++ []
theorem dksX10_hasNext_0 : cX10_hasNext.data.toList.drop 0 = dktX10_hasNext_0 := by decide +kernel
theorem dX10_hasNext_0 : decode cX10_hasNext 0 = .ok (.aload_n 0, 1) := dk_42 (dk_at dksX10_hasNext_0 0 rfl rfl)
theorem dX10_hasNext_1 : decode cX10_hasNext 1 = .ok (.getfield 21, 3) := dk_180 0 21 (dk_at dksX10_hasNext_0 1 rfl rfl)
theorem dX10_hasNext_4 : decode cX10_hasNext 4 = .ok (.sipush 600, 3) := dk_17 2 88 (dk_at dksX10_hasNext_0 4 rfl rfl)
theorem dX10_hasNext_7 : decode cX10_hasNext 7 = .ok (.if_icmp .ge 7, 3) := dk_162 0 7 (dk_at dksX10_hasNext_0 7 rfl rfl)
theorem dX10_hasNext_10 : decode cX10_hasNext 10 = .ok (.iconst 1, 1) := dk_4 (dk_at dksX10_hasNext_0 10 rfl rfl)
theorem dX10_hasNext_11 : decode cX10_hasNext 11 = .ok (.goto 4, 3) := dk_167 0 4 (dk_at dksX10_hasNext_0 11 rfl rfl)
theorem dX10_hasNext_14 : decode cX10_hasNext 14 = .ok (.iconst 0, 1) := dk_3 (dk_at dksX10_hasNext_0 14 rfl rfl)
theorem dX10_hasNext_15 : decode cX10_hasNext 15 = .ok (.ireturn, 1) := dk_172 (dk_at dksX10_hasNext_0 15 rfl rfl)
abbrev cX10_next : ByteArray := prog_9_method_4_code
def yX10_next : MethodName := ⟨RX10, "next", "()Ljava/lang/Object;"⟩
theorem dX10_next_0 : decode cX10_next 0 = .ok (.aload_n 0, 1) := by decide +kernel
theorem dX10_next_1 : decode cX10_next 1 = .ok (.invokevirtual 41, 3) := by decide +kernel
theorem dX10_next_4 : decode cX10_next 4 = .ok (.areturn, 1) := by decide +kernel
abbrev cX10_next_2 : ByteArray := prog_9_method_3_code
def yX10_next_2 : MethodName := ⟨RX10, "next", "()LBoxSpans$Span;"⟩
def dkwX10_next_2_2 : List UInt8 := [3, 182, 0, 15, 181, 0, 21, 43, 176]
abbrev dktX10_next_2_2 : List UInt8 := dkwX10_next_2_2 ++ []
def dkwX10_next_2_1 : List UInt8 := [180, 0, 3, 42, 180, 0, 21, 4, 182, 0, 15, 183, 0, 34, 76, 42, 42, 180, 0, 3, 43, 182, 0, 37]
abbrev dktX10_next_2_1 : List UInt8 := dkwX10_next_2_1 ++ dktX10_next_2_2
def dkwX10_next_2_0 : List UInt8 := [42, 182, 0, 25, 154, 0, 11, 187, 0, 29, 89, 183, 0, 31, 191, 187, 0, 32, 89, 42, 180, 0, 21, 42]
abbrev dktX10_next_2_0 : List UInt8 := dkwX10_next_2_0 ++ dktX10_next_2_1
theorem dksX10_next_2_0 : cX10_next_2.data.toList.drop 0 = dktX10_next_2_0 := by decide +kernel
theorem dksX10_next_2_1 : cX10_next_2.data.toList.drop 24 = dktX10_next_2_1 := dk_seg dksX10_next_2_0 24 rfl rfl
theorem dksX10_next_2_2 : cX10_next_2.data.toList.drop 48 = dktX10_next_2_2 := dk_seg dksX10_next_2_1 24 rfl rfl
theorem dX10_next_2_0 : decode cX10_next_2 0 = .ok (.aload_n 0, 1) := dk_42 (dk_at dksX10_next_2_0 0 rfl rfl)
theorem dX10_next_2_1 : decode cX10_next_2 1 = .ok (.invokevirtual 25, 3) := dk_182 0 25 (dk_at dksX10_next_2_0 1 rfl rfl)
theorem dX10_next_2_4 : decode cX10_next_2 4 = .ok (.ifCond .ne 11, 3) := dk_154 0 11 (dk_at dksX10_next_2_0 4 rfl rfl)
theorem dX10_next_2_7 : decode cX10_next_2 7 = .ok (.new 29, 3) := dk_187 0 29 (dk_at dksX10_next_2_0 7 rfl rfl)
theorem dX10_next_2_10 : decode cX10_next_2 10 = .ok (.dup, 1) := dk_89 (dk_at dksX10_next_2_0 10 rfl rfl)
theorem dX10_next_2_11 : decode cX10_next_2 11 = .ok (.invokespecial 31, 3) := dk_183 0 31 (dk_at dksX10_next_2_0 11 rfl rfl)
theorem dX10_next_2_14 : decode cX10_next_2 14 = .ok (.athrow, 1) := dk_191 (dk_at dksX10_next_2_0 14 rfl rfl)
theorem dX10_next_2_15 : decode cX10_next_2 15 = .ok (.new 32, 3) := dk_187 0 32 (dk_at dksX10_next_2_0 15 rfl rfl)
theorem dX10_next_2_18 : decode cX10_next_2 18 = .ok (.dup, 1) := dk_89 (dk_at dksX10_next_2_0 18 rfl rfl)
theorem dX10_next_2_19 : decode cX10_next_2 19 = .ok (.aload_n 0, 1) := dk_42 (dk_at dksX10_next_2_0 19 rfl rfl)
theorem dX10_next_2_20 : decode cX10_next_2 20 = .ok (.getfield 21, 3) := dk_180 0 21 (dk_at dksX10_next_2_0 20 rfl rfl)
theorem dX10_next_2_23 : decode cX10_next_2 23 = .ok (.aload_n 0, 1) := dk_42 (dk_at dksX10_next_2_0 23 rfl rfl)
theorem dX10_next_2_24 : decode cX10_next_2 24 = .ok (.getfield 3, 3) := dk_180 0 3 (dk_at dksX10_next_2_1 0 rfl rfl)
theorem dX10_next_2_27 : decode cX10_next_2 27 = .ok (.aload_n 0, 1) := dk_42 (dk_at dksX10_next_2_1 3 rfl rfl)
theorem dX10_next_2_28 : decode cX10_next_2 28 = .ok (.getfield 21, 3) := dk_180 0 21 (dk_at dksX10_next_2_1 4 rfl rfl)
theorem dX10_next_2_31 : decode cX10_next_2 31 = .ok (.iconst 1, 1) := dk_4 (dk_at dksX10_next_2_1 7 rfl rfl)
theorem dX10_next_2_32 : decode cX10_next_2 32 = .ok (.invokevirtual 15, 3) := dk_182 0 15 (dk_at dksX10_next_2_1 8 rfl rfl)
theorem dX10_next_2_35 : decode cX10_next_2 35 = .ok (.invokespecial 34, 3) := dk_183 0 34 (dk_at dksX10_next_2_1 11 rfl rfl)
theorem dX10_next_2_38 : decode cX10_next_2 38 = .ok (.astore_n 1, 1) := dk_76 (dk_at dksX10_next_2_1 14 rfl rfl)
theorem dX10_next_2_39 : decode cX10_next_2 39 = .ok (.aload_n 0, 1) := dk_42 (dk_at dksX10_next_2_1 15 rfl rfl)
theorem dX10_next_2_40 : decode cX10_next_2 40 = .ok (.aload_n 0, 1) := dk_42 (dk_at dksX10_next_2_1 16 rfl rfl)
theorem dX10_next_2_41 : decode cX10_next_2 41 = .ok (.getfield 3, 3) := dk_180 0 3 (dk_at dksX10_next_2_1 17 rfl rfl)
theorem dX10_next_2_44 : decode cX10_next_2 44 = .ok (.aload_n 1, 1) := dk_43 (dk_at dksX10_next_2_1 20 rfl rfl)
theorem dX10_next_2_45 : decode cX10_next_2 45 = .ok (.invokevirtual 37, 3) := dk_182 0 37 (dk_at dksX10_next_2_1 21 rfl rfl)
theorem dX10_next_2_48 : decode cX10_next_2 48 = .ok (.iconst 0, 1) := dk_3 (dk_at dksX10_next_2_2 0 rfl rfl)
theorem dX10_next_2_49 : decode cX10_next_2 49 = .ok (.invokevirtual 15, 3) := dk_182 0 15 (dk_at dksX10_next_2_2 1 rfl rfl)
theorem dX10_next_2_52 : decode cX10_next_2 52 = .ok (.putfield 21, 3) := dk_181 0 21 (dk_at dksX10_next_2_2 4 rfl rfl)
theorem dX10_next_2_55 : decode cX10_next_2 55 = .ok (.aload_n 1, 1) := dk_43 (dk_at dksX10_next_2_2 7 rfl rfl)
theorem dX10_next_2_56 : decode cX10_next_2 56 = .ok (.areturn, 1) := dk_176 (dk_at dksX10_next_2_2 8 rfl rfl)
abbrev cX10_init : ByteArray := prog_9_method_1_code
def yX10_init : MethodName := ⟨RX10, "<init>", "(LBoxSpans$Runs;)V"⟩
def dkwX10_init_0 : List UInt8 := [42, 43, 181, 0, 3, 42, 183, 0, 9, 42, 42, 180, 0, 3, 3, 3, 182, 0, 15, 181, 0, 21, 177]
abbrev dktX10_init_0 : List UInt8 := dkwX10_init_0 ++ []
theorem dksX10_init_0 : cX10_init.data.toList.drop 0 = dktX10_init_0 := by decide +kernel
theorem dX10_init_0 : decode cX10_init 0 = .ok (.aload_n 0, 1) := dk_42 (dk_at dksX10_init_0 0 rfl rfl)
theorem dX10_init_1 : decode cX10_init 1 = .ok (.aload_n 1, 1) := dk_43 (dk_at dksX10_init_0 1 rfl rfl)
theorem dX10_init_2 : decode cX10_init 2 = .ok (.putfield 3, 3) := dk_181 0 3 (dk_at dksX10_init_0 2 rfl rfl)
theorem dX10_init_5 : decode cX10_init 5 = .ok (.aload_n 0, 1) := dk_42 (dk_at dksX10_init_0 5 rfl rfl)
theorem dX10_init_6 : decode cX10_init 6 = .ok (.invokespecial 9, 3) := dk_183 0 9 (dk_at dksX10_init_0 6 rfl rfl)
theorem dX10_init_9 : decode cX10_init 9 = .ok (.aload_n 0, 1) := dk_42 (dk_at dksX10_init_0 9 rfl rfl)
theorem dX10_init_10 : decode cX10_init 10 = .ok (.aload_n 0, 1) := dk_42 (dk_at dksX10_init_0 10 rfl rfl)
theorem dX10_init_11 : decode cX10_init 11 = .ok (.getfield 3, 3) := dk_180 0 3 (dk_at dksX10_init_0 11 rfl rfl)
theorem dX10_init_14 : decode cX10_init 14 = .ok (.iconst 0, 1) := dk_3 (dk_at dksX10_init_0 14 rfl rfl)
theorem dX10_init_15 : decode cX10_init 15 = .ok (.iconst 0, 1) := dk_3 (dk_at dksX10_init_0 15 rfl rfl)
theorem dX10_init_16 : decode cX10_init 16 = .ok (.invokevirtual 15, 3) := dk_182 0 15 (dk_at dksX10_init_0 16 rfl rfl)
theorem dX10_init_19 : decode cX10_init 19 = .ok (.putfield 21, 3) := dk_181 0 21 (dk_at dksX10_init_0 19 rfl rfl)
theorem dX10_init_22 : decode cX10_init 22 = .ok (.return_, 1) := dk_177 (dk_at dksX10_init_0 22 rfl rfl)
theorem q143 : (Jvm.Cond.initialized "BoxSpans$Runs$1") ∈ lw_all := lw_g (lw_at lw_m1 43 rfl) rfl
theorem q736 : (Jvm.Cond.castable "BoxSpans$Runs$1" "java/util/Iterator") ∈ lw_tbl := lw_at lw_m3 156 rfl
theorem q737 : (Jvm.Cond.selects "BoxSpans$Runs$1" ({ cls := "java/util/Iterator", name := "hasNext", desc := "()Z" } : Jvm.MethodName) ({ cls := "BoxSpans$Runs$1", name := "hasNext", desc := "()Z" } : Jvm.MethodName)) ∈ lw_all := lw_g (lw_at lw_m3 157 rfl) rfl
theorem q738 : (Jvm.Cond.unhidden "BoxSpans$Runs$1" "hasNext" "()Z") ∈ lw_tbl := lw_at lw_m3 158 rfl
theorem q739 : (Jvm.Cond.instanceMethod ({ cls := "BoxSpans$Runs$1", name := "hasNext", desc := "()Z" } : Jvm.MethodName)) ∈ lw_all := lw_g (lw_at lw_m3 159 rfl) rfl
theorem q740 : (Jvm.Cond.publicMethod ({ cls := "BoxSpans$Runs$1", name := "hasNext", desc := "()Z" } : Jvm.MethodName)) ∈ lw_tbl := lw_at lw_m3 160 rfl
theorem q741 : (Jvm.Cond.code ({ cls := "BoxSpans$Runs$1", name := "hasNext", desc := "()Z" } : Jvm.MethodName) prog_9_method_2_code (1 : Nat) (Option.some Jvm.ClassFile.FieldType.boolean)) ∈ lw_all := lw_g (lw_at lw_m3 161 rfl) rfl
theorem q776 : (Jvm.Cond.selects "BoxSpans$Runs$1" ({ cls := "java/util/Iterator", name := "next", desc := "()Ljava/lang/Object;" } : Jvm.MethodName) ({ cls := "BoxSpans$Runs$1", name := "next", desc := "()Ljava/lang/Object;" } : Jvm.MethodName)) ∈ lw_all := lw_g (lw_at lw_m3 196 rfl) rfl
theorem q777 : (Jvm.Cond.unhidden "BoxSpans$Runs$1" "next" "()Ljava/lang/Object;") ∈ lw_tbl := lw_at lw_m3 197 rfl
theorem q778 : (Jvm.Cond.instanceMethod ({ cls := "BoxSpans$Runs$1", name := "next", desc := "()Ljava/lang/Object;" } : Jvm.MethodName)) ∈ lw_all := lw_g (lw_at lw_m3 198 rfl) rfl
theorem q779 : (Jvm.Cond.publicMethod ({ cls := "BoxSpans$Runs$1", name := "next", desc := "()Ljava/lang/Object;" } : Jvm.MethodName)) ∈ lw_tbl := lw_at lw_m3 199 rfl
theorem q780 : (Jvm.Cond.code ({ cls := "BoxSpans$Runs$1", name := "next", desc := "()Ljava/lang/Object;" } : Jvm.MethodName) prog_9_method_4_code (1 : Nat) (Option.some (Jvm.ClassFile.FieldType.object "java/lang/Object"))) ∈ lw_all := lw_g (lw_at lw_m3 200 rfl) rfl
theorem q781 : (Jvm.Cond.methodLink "BoxSpans$Runs$1" (41 : Nat) ({ cls := "BoxSpans$Runs$1", name := "next", desc := "()LBoxSpans$Span;" } : Jvm.MethodName)) ∈ lw_all := lw_g (lw_at lw_m3 201 rfl) rfl
theorem q782 : (Jvm.Cond.instanceMethod ({ cls := "BoxSpans$Runs$1", name := "next", desc := "()LBoxSpans$Span;" } : Jvm.MethodName)) ∈ lw_all := lw_g (lw_at lw_m3 202 rfl) rfl
theorem q783 : (Jvm.Cond.selects "BoxSpans$Runs$1" ({ cls := "BoxSpans$Runs$1", name := "next", desc := "()LBoxSpans$Span;" } : Jvm.MethodName) ({ cls := "BoxSpans$Runs$1", name := "next", desc := "()LBoxSpans$Span;" } : Jvm.MethodName)) ∈ lw_all := lw_g (lw_at lw_m3 203 rfl) rfl
theorem q784 : (Jvm.Cond.code ({ cls := "BoxSpans$Runs$1", name := "next", desc := "()LBoxSpans$Span;" } : Jvm.MethodName) prog_9_method_3_code (2 : Nat) (Option.some (Jvm.ClassFile.FieldType.object "BoxSpans$Span"))) ∈ lw_all := lw_g (lw_at lw_m3 204 rfl) rfl
theorem q785 : (Jvm.Cond.methodLink "BoxSpans$Runs$1" (25 : Nat) ({ cls := "BoxSpans$Runs$1", name := "hasNext", desc := "()Z" } : Jvm.MethodName)) ∈ lw_all := lw_g (lw_at lw_m3 205 rfl) rfl
theorem q786 : (Jvm.Cond.classLink "BoxSpans$Runs$1" (29 : Nat) "java/util/NoSuchElementException") ∈ lw_all := lw_g (lw_at lw_m3 206 rfl) rfl
theorem q795 : (Jvm.Cond.methodLink "BoxSpans$Runs$1" (31 : Nat) ({ cls := "java/util/NoSuchElementException", name := "<init>", desc := "()V" } : Jvm.MethodName)) ∈ lw_all := lw_g (lw_at lw_m3 215 rfl) rfl
theorem q807 : (Jvm.Cond.classLink "BoxSpans$Runs$1" (32 : Nat) "BoxSpans$Span") ∈ lw_all := lw_g (lw_at lw_m3 227 rfl) rfl
theorem q809 : (Jvm.Cond.methodLinkNest "BoxSpans$Runs$1" (15 : Nat) ({ cls := "BoxSpans$Runs", name := "skips", desc := "(IZ)I" } : Jvm.MethodName) "BoxSpans") ∈ lw_tbl := lw_at lw_m3 229 rfl
theorem q818 : (Jvm.Cond.methodLink "BoxSpans$Runs$1" (34 : Nat) ({ cls := "BoxSpans$Span", name := "<init>", desc := "(II)V" } : Jvm.MethodName)) ∈ lw_all := lw_g (lw_at lw_m3 238 rfl) rfl
theorem q829 : (Jvm.Cond.methodLink "BoxSpans$Runs$1" (37 : Nat) ({ cls := "BoxSpans$Span", name := "to", desc := "()I" } : Jvm.MethodName)) ∈ lw_all := lw_g (lw_at lw_m4 9 rfl) rfl
theorem q907 : (Jvm.Cond.selects "BoxSpans$Runs$1" ({ cls := "java/lang/Object", name := "getClass", desc := "()Ljava/lang/Class;" } : Jvm.MethodName) ({ cls := "java/lang/Object", name := "getClass", desc := "()Ljava/lang/Class;" } : Jvm.MethodName)) ∈ lw_all := lw_g (lw_at lw_m4 87 rfl) rfl
theorem q1812 : (Jvm.Cond.instantiable "BoxSpans$Runs$1" (2 : Nat)) ∈ lw_all := lw_g (lw_at lw_m8 32 rfl) rfl
theorem q1814 : (Jvm.Cond.instanceMethod ({ cls := "BoxSpans$Runs$1", name := "<init>", desc := "(LBoxSpans$Runs;)V" } : Jvm.MethodName)) ∈ lw_all := lw_g (lw_at lw_m8 34 rfl) rfl
theorem q1815 : (Jvm.Cond.code ({ cls := "BoxSpans$Runs$1", name := "<init>", desc := "(LBoxSpans$Runs;)V" } : Jvm.MethodName) prog_9_method_1_code (2 : Nat) (Option.none : Option Jvm.ClassFile.FieldType)) ∈ lw_all := lw_g (lw_at lw_m8 35 rfl) rfl
theorem q1816 : (Jvm.Cond.methodLink "BoxSpans$Runs$1" (9 : Nat) ({ cls := "java/lang/Object", name := "<init>", desc := "()V" } : Jvm.MethodName)) ∈ lw_all := lw_g (lw_at lw_m8 36 rfl) rfl
theorem q1817 : (Jvm.Cond.fieldLink "BoxSpans$Runs$1" (21 : Nat) "BoxSpans$Runs$1" "next" "I") ∈ lw_all := lw_g (lw_at lw_m8 37 rfl) rfl
theorem q1818 : (Jvm.Cond.fieldLink "BoxSpans$Runs$1" (3 : Nat) "BoxSpans$Runs$1" "this$0" "LBoxSpans$Runs;") ∈ lw_all := lw_g (lw_at lw_m8 38 rfl) rfl
theorem q1819 : (Jvm.Cond.lays "BoxSpans$Runs$1" "BoxSpans$Runs$1" "next" "I") ∈ lw_all := lw_g (lw_at lw_m8 39 rfl) rfl
theorem q1820 : (Jvm.Cond.soleField "BoxSpans$Runs$1" "next") ∈ lw_all := lw_g (lw_at lw_m8 40 rfl) rfl
theorem q1821 : (Jvm.Cond.laysFinal "BoxSpans$Runs$1" "BoxSpans$Runs$1" "this$0" "LBoxSpans$Runs;") ∈ lw_all := lw_g (lw_at lw_m8 41 rfl) rfl
theorem q1822 : (Jvm.Cond.soleField "BoxSpans$Runs$1" "this$0") ∈ lw_all := lw_g (lw_at lw_m8 42 rfl) rfl
theorem q1823 : (Jvm.Cond.superclass "BoxSpans$Runs$1" "java/lang/Object") ∈ lw_all := lw_g (lw_at lw_m8 43 rfl) rfl
theorem q2069 : (Jvm.Cond.selects "BoxSpans$Runs$1" ({ cls := "java/lang/Object", name := "toString", desc := "()Ljava/lang/String;" } : Jvm.MethodName) ({ cls := "java/lang/Object", name := "toString", desc := "()Ljava/lang/String;" } : Jvm.MethodName)) ∈ lw_all := lw_g (lw_at lw_m9 49 rfl) rfl
theorem q3077 : (Jvm.Cond.selects "BoxSpans$Runs$1" ({ cls := "BoxSpans$Runs$1", name := "hasNext", desc := "()Z" } : Jvm.MethodName) ({ cls := "BoxSpans$Runs$1", name := "hasNext", desc := "()Z" } : Jvm.MethodName)) ∈ lw_all := lw_g (lw_at lw_m13 97 rfl) rfl
theorem q3118 : (Jvm.Cond.castable "BoxSpans$Runs$1" "java/lang/Object") ∈ lw_tbl := lw_at lw_m13 138 rfl
theorem in_X10 : ∀ w ∈ wsX100, w ∈ lw_all := lw_in wsX100 [1819, 1821] (by decide +kernel) (by decide +kernel)
/-! BoxSpans$Reader -/
set_option maxRecDepth 100000
def RX11 : String := "BoxSpans$Reader"
def TX11 : u_T := fun k => match k with
  | 0 => ("BoxSpans$Reader", "text", "Ljava/lang/CharSequence;", true)
  | _ => ("BoxSpans$Reader", "at", "I", false)
def tyX11 : Nat → FieldType := fun k => match k with
  | 0 => .object "java/lang/CharSequence"
  | _ => .int
abbrev wsX110 : List Cond := u_ws RX11 TX11 2
theorem nmX11 : ∀ a, a < 2 → ∀ b, b < 2 → a ≠ b → (TX11 a).2.1 ≠ (TX11 b).2.1 := by decide +kernel
theorem tyX11_ok : ∀ k, k < 2 → parseFieldDescriptor (TX11 k).2.2.1 = some (tyX11 k) := by decide +kernel
abbrev cX11_init : ByteArray := prog_6_method_1_code
def yX11_init : MethodName := ⟨RX11, "<init>", "(Ljava/lang/CharSequence;)V"⟩
def dkwX11_init_0 : List UInt8 := [42, 183, 0, 3, 42, 43, 181, 0, 9, 177]
abbrev dktX11_init_0 : List UInt8 := dkwX11_init_0 ++ []
theorem dksX11_init_0 : cX11_init.data.toList.drop 0 = dktX11_init_0 := by decide +kernel
theorem dX11_init_0 : decode cX11_init 0 = .ok (.aload_n 0, 1) := dk_42 (dk_at dksX11_init_0 0 rfl rfl)
theorem dX11_init_1 : decode cX11_init 1 = .ok (.invokespecial 3, 3) := dk_183 0 3 (dk_at dksX11_init_0 1 rfl rfl)
theorem dX11_init_4 : decode cX11_init 4 = .ok (.aload_n 0, 1) := dk_42 (dk_at dksX11_init_0 4 rfl rfl)
theorem dX11_init_5 : decode cX11_init 5 = .ok (.aload_n 1, 1) := dk_43 (dk_at dksX11_init_0 5 rfl rfl)
theorem dX11_init_6 : decode cX11_init 6 = .ok (.putfield 9, 3) := dk_181 0 9 (dk_at dksX11_init_0 6 rfl rfl)
theorem dX11_init_9 : decode cX11_init 9 = .ok (.return_, 1) := dk_177 (dk_at dksX11_init_0 9 rfl rfl)
abbrev cX11_commands : ByteArray := prog_6_method_19_code
def yX11_commands : MethodName := ⟨RX11, "commands", "()Ljava/util/List;"⟩
def dkwX11_commands_2 : List UInt8 := [185, 0, 178, 2, 0, 87, 167, 255, 223, 43, 176]
abbrev dktX11_commands_2 : List UInt8 := dkwX11_commands_2 ++ []
def dkwX11_commands_1 : List UInt8 := [180, 0, 9, 185, 0, 19, 1, 0, 162, 0, 23, 42, 16, 59, 182, 0, 49, 43, 42, 182, 0, 175]
abbrev dktX11_commands_1 : List UInt8 := dkwX11_commands_1 ++ dktX11_commands_2
def dkwX11_commands_0 : List UInt8 := [187, 0, 172, 89, 183, 0, 174, 76, 43, 42, 182, 0, 175, 185, 0, 178, 2, 0, 87, 42, 180, 0, 15, 42]
abbrev dktX11_commands_0 : List UInt8 := dkwX11_commands_0 ++ dktX11_commands_1
theorem dksX11_commands_0 : cX11_commands.data.toList.drop 0 = dktX11_commands_0 := by decide +kernel
theorem dksX11_commands_1 : cX11_commands.data.toList.drop 24 = dktX11_commands_1 := dk_seg dksX11_commands_0 24 rfl rfl
theorem dksX11_commands_2 : cX11_commands.data.toList.drop 46 = dktX11_commands_2 := dk_seg dksX11_commands_1 22 rfl rfl
theorem dX11_commands_0 : decode cX11_commands 0 = .ok (.new 172, 3) := dk_187 0 172 (dk_at dksX11_commands_0 0 rfl rfl)
theorem dX11_commands_3 : decode cX11_commands 3 = .ok (.dup, 1) := dk_89 (dk_at dksX11_commands_0 3 rfl rfl)
theorem dX11_commands_4 : decode cX11_commands 4 = .ok (.invokespecial 174, 3) := dk_183 0 174 (dk_at dksX11_commands_0 4 rfl rfl)
theorem dX11_commands_7 : decode cX11_commands 7 = .ok (.astore_n 1, 1) := dk_76 (dk_at dksX11_commands_0 7 rfl rfl)
theorem dX11_commands_8 : decode cX11_commands 8 = .ok (.aload_n 1, 1) := dk_43 (dk_at dksX11_commands_0 8 rfl rfl)
theorem dX11_commands_9 : decode cX11_commands 9 = .ok (.aload_n 0, 1) := dk_42 (dk_at dksX11_commands_0 9 rfl rfl)
theorem dX11_commands_10 : decode cX11_commands 10 = .ok (.invokevirtual 175, 3) := dk_182 0 175 (dk_at dksX11_commands_0 10 rfl rfl)
theorem dX11_commands_13 : decode cX11_commands 13 = .ok (.invokeinterface 178 2, 5) := by decide +kernel
theorem dX11_commands_18 : decode cX11_commands 18 = .ok (.pop, 1) := dk_87 (dk_at dksX11_commands_0 18 rfl rfl)
theorem dX11_commands_19 : decode cX11_commands 19 = .ok (.aload_n 0, 1) := dk_42 (dk_at dksX11_commands_0 19 rfl rfl)
theorem dX11_commands_20 : decode cX11_commands 20 = .ok (.getfield 15, 3) := dk_180 0 15 (dk_at dksX11_commands_0 20 rfl rfl)
theorem dX11_commands_23 : decode cX11_commands 23 = .ok (.aload_n 0, 1) := dk_42 (dk_at dksX11_commands_0 23 rfl rfl)
theorem dX11_commands_24 : decode cX11_commands 24 = .ok (.getfield 9, 3) := dk_180 0 9 (dk_at dksX11_commands_1 0 rfl rfl)
theorem dX11_commands_27 : decode cX11_commands 27 = .ok (.invokeinterface 19 1, 5) := by decide +kernel
theorem dX11_commands_32 : decode cX11_commands 32 = .ok (.if_icmp .ge 23, 3) := dk_162 0 23 (dk_at dksX11_commands_1 8 rfl rfl)
theorem dX11_commands_35 : decode cX11_commands 35 = .ok (.aload_n 0, 1) := dk_42 (dk_at dksX11_commands_1 11 rfl rfl)
theorem dX11_commands_36 : decode cX11_commands 36 = .ok (.bipush 59, 2) := dk_16 59 (dk_at dksX11_commands_1 12 rfl rfl)
theorem dX11_commands_38 : decode cX11_commands 38 = .ok (.invokevirtual 49, 3) := dk_182 0 49 (dk_at dksX11_commands_1 14 rfl rfl)
theorem dX11_commands_41 : decode cX11_commands 41 = .ok (.aload_n 1, 1) := dk_43 (dk_at dksX11_commands_1 17 rfl rfl)
theorem dX11_commands_42 : decode cX11_commands 42 = .ok (.aload_n 0, 1) := dk_42 (dk_at dksX11_commands_1 18 rfl rfl)
theorem dX11_commands_43 : decode cX11_commands 43 = .ok (.invokevirtual 175, 3) := dk_182 0 175 (dk_at dksX11_commands_1 19 rfl rfl)
theorem dX11_commands_46 : decode cX11_commands 46 = .ok (.invokeinterface 178 2, 5) := by decide +kernel
theorem dX11_commands_51 : decode cX11_commands 51 = .ok (.pop, 1) := dk_87 (dk_at dksX11_commands_2 5 rfl rfl)
theorem dX11_commands_52 : decode cX11_commands 52 = .ok (.goto (-33), 3) := dk_167 255 223 (dk_at dksX11_commands_2 6 rfl rfl)
theorem dX11_commands_55 : decode cX11_commands 55 = .ok (.aload_n 1, 1) := dk_43 (dk_at dksX11_commands_2 9 rfl rfl)
theorem dX11_commands_56 : decode cX11_commands 56 = .ok (.areturn, 1) := dk_176 (dk_at dksX11_commands_2 10 rfl rfl)
abbrev cX11_command : ByteArray := prog_6_method_18_code
def yX11_command : MethodName := ⟨RX11, "command", "()LBoxSpans$Command;"⟩
def dkwX11_command_9 : List UInt8 := [186, 0, 168, 0, 0, 186, 0, 171, 0, 0, 183, 0, 106, 176]
abbrev dktX11_command_9 : List UInt8 := dkwX11_command_9 ++ []
def dkwX11_command_8 : List UInt8 := [182, 0, 159, 167, 0, 34, 42, 182, 0, 162, 167, 0, 27, 42, 182, 0, 165, 167, 0, 20, 187, 0, 99, 89]
abbrev dktX11_command_8 : List UInt8 := dkwX11_command_8 ++ dktX11_command_9
def dkwX11_command_7 : List UInt8 := [42, 182, 0, 149, 167, 0, 55, 42, 182, 0, 153, 167, 0, 48, 42, 182, 0, 156, 167, 0, 41, 42]
abbrev dktX11_command_7 : List UInt8 := dkwX11_command_7 ++ dktX11_command_8
def dkwX11_command_6 : List UInt8 := [170, 0, 0, 0, 0, 80, 0, 0, 0, 0, 0, 0, 0, 5, 0, 0, 0, 38, 0, 0, 0, 45, 0, 0, 0, 52, 0, 0, 0, 59, 0, 0, 0, 66, 0, 0, 0, 73]
abbrev dktX11_command_6 : List UInt8 := dkwX11_command_6 ++ dktX11_command_7
def dkwX11_command_5 : List UInt8 := [18, 147, 182, 0, 135, 153, 0, 5, 8, 61, 28]
abbrev dktX11_command_5 : List UInt8 := dkwX11_command_5 ++ dktX11_command_6
def dkwX11_command_4 : List UInt8 := [153, 0, 33, 6, 61, 167, 0, 28, 43, 18, 145, 182, 0, 135, 153, 0, 19, 7, 61, 167, 0, 14, 43]
abbrev dktX11_command_4 : List UInt8 := dkwX11_command_4 ++ dktX11_command_5
def dkwX11_command_3 : List UInt8 := [61, 167, 0, 56, 43, 18, 141, 182, 0, 135, 153, 0, 47, 5, 61, 167, 0, 42, 43, 18, 143, 182, 0, 135]
abbrev dktX11_command_3 : List UInt8 := dkwX11_command_3 ++ dktX11_command_4
def dkwX11_command_2 : List UInt8 := [43, 18, 133, 182, 0, 135, 153, 0, 75, 3, 61, 167, 0, 70, 43, 18, 139, 182, 0, 135, 153, 0, 61, 4]
abbrev dktX11_command_2 : List UInt8 := dkwX11_command_2 ++ dktX11_command_3
def dkwX11_command_1 : List UInt8 := [171, 0, 0, 0, 138, 0, 0, 0, 6, 174, 122, 46, 122, 0, 0, 0, 71, 0, 1, 162, 27, 0, 0, 0, 57, 0, 47, 46, 239, 0, 0, 0, 127, 0, 51, 59, 209, 0, 0, 0, 85, 0, 55, 176, 167, 0, 0, 0, 113, 6, 137, 27, 26, 0, 0, 0, 99]
abbrev dktX11_command_1 : List UInt8 := dkwX11_command_1 ++ dktX11_command_2
def dkwX11_command_0 : List UInt8 := [42, 182, 0, 127, 76, 2, 61, 43, 182, 0, 130]
abbrev dktX11_command_0 : List UInt8 := dkwX11_command_0 ++ dktX11_command_1
theorem dksX11_command_0 : cX11_command.data.toList.drop 0 = dktX11_command_0 := by decide +kernel
theorem dksX11_command_1 : cX11_command.data.toList.drop 11 = dktX11_command_1 := dk_seg dksX11_command_0 11 rfl rfl
theorem dksX11_command_2 : cX11_command.data.toList.drop 68 = dktX11_command_2 := dk_seg dksX11_command_1 57 rfl rfl
theorem dksX11_command_3 : cX11_command.data.toList.drop 92 = dktX11_command_3 := dk_seg dksX11_command_2 24 rfl rfl
theorem dksX11_command_4 : cX11_command.data.toList.drop 116 = dktX11_command_4 := dk_seg dksX11_command_3 24 rfl rfl
theorem dksX11_command_5 : cX11_command.data.toList.drop 139 = dktX11_command_5 := dk_seg dksX11_command_4 23 rfl rfl
theorem dksX11_command_6 : cX11_command.data.toList.drop 150 = dktX11_command_6 := dk_seg dksX11_command_5 11 rfl rfl
theorem dksX11_command_7 : cX11_command.data.toList.drop 188 = dktX11_command_7 := dk_seg dksX11_command_6 38 rfl rfl
theorem dksX11_command_8 : cX11_command.data.toList.drop 210 = dktX11_command_8 := dk_seg dksX11_command_7 22 rfl rfl
theorem dksX11_command_9 : cX11_command.data.toList.drop 234 = dktX11_command_9 := dk_seg dksX11_command_8 24 rfl rfl
theorem dX11_command_0 : decode cX11_command 0 = .ok (.aload_n 0, 1) := dk_42 (dk_at dksX11_command_0 0 rfl rfl)
theorem dX11_command_1 : decode cX11_command 1 = .ok (.invokevirtual 127, 3) := dk_182 0 127 (dk_at dksX11_command_0 1 rfl rfl)
theorem dX11_command_4 : decode cX11_command 4 = .ok (.astore_n 1, 1) := dk_76 (dk_at dksX11_command_0 4 rfl rfl)
theorem dX11_command_5 : decode cX11_command 5 = .ok (.iconst (-1), 1) := dk_2 (dk_at dksX11_command_0 5 rfl rfl)
theorem dX11_command_6 : decode cX11_command 6 = .ok (.istore_n 2, 1) := dk_61 (dk_at dksX11_command_0 6 rfl rfl)
theorem dX11_command_7 : decode cX11_command 7 = .ok (.aload_n 1, 1) := dk_43 (dk_at dksX11_command_0 7 rfl rfl)
theorem dX11_command_8 : decode cX11_command 8 = .ok (.invokevirtual 130, 3) := dk_182 0 130 (dk_at dksX11_command_0 8 rfl rfl)
theorem dX11_command_11 : decode cX11_command 11 = .ok (.lookupswitch 138 #[(-1367724422, 71), (107035, 57), (3092207, 127), (3357649, 85), (3649703, 113), (109648666, 99)], 57) := by decide +kernel
theorem dX11_command_68 : decode cX11_command 68 = .ok (.aload_n 1, 1) := dk_43 (dk_at dksX11_command_2 0 rfl rfl)
theorem dX11_command_69 : decode cX11_command 69 = .ok (.ldc 133, 2) := dk_18 133 (dk_at dksX11_command_2 1 rfl rfl)
theorem dX11_command_71 : decode cX11_command 71 = .ok (.invokevirtual 135, 3) := dk_182 0 135 (dk_at dksX11_command_2 3 rfl rfl)
theorem dX11_command_74 : decode cX11_command 74 = .ok (.ifCond .eq 75, 3) := dk_153 0 75 (dk_at dksX11_command_2 6 rfl rfl)
theorem dX11_command_77 : decode cX11_command 77 = .ok (.iconst 0, 1) := dk_3 (dk_at dksX11_command_2 9 rfl rfl)
theorem dX11_command_78 : decode cX11_command 78 = .ok (.istore_n 2, 1) := dk_61 (dk_at dksX11_command_2 10 rfl rfl)
theorem dX11_command_79 : decode cX11_command 79 = .ok (.goto 70, 3) := dk_167 0 70 (dk_at dksX11_command_2 11 rfl rfl)
theorem dX11_command_82 : decode cX11_command 82 = .ok (.aload_n 1, 1) := dk_43 (dk_at dksX11_command_2 14 rfl rfl)
theorem dX11_command_83 : decode cX11_command 83 = .ok (.ldc 139, 2) := dk_18 139 (dk_at dksX11_command_2 15 rfl rfl)
theorem dX11_command_85 : decode cX11_command 85 = .ok (.invokevirtual 135, 3) := dk_182 0 135 (dk_at dksX11_command_2 17 rfl rfl)
theorem dX11_command_88 : decode cX11_command 88 = .ok (.ifCond .eq 61, 3) := dk_153 0 61 (dk_at dksX11_command_2 20 rfl rfl)
theorem dX11_command_91 : decode cX11_command 91 = .ok (.iconst 1, 1) := dk_4 (dk_at dksX11_command_2 23 rfl rfl)
theorem dX11_command_92 : decode cX11_command 92 = .ok (.istore_n 2, 1) := dk_61 (dk_at dksX11_command_3 0 rfl rfl)
theorem dX11_command_93 : decode cX11_command 93 = .ok (.goto 56, 3) := dk_167 0 56 (dk_at dksX11_command_3 1 rfl rfl)
theorem dX11_command_96 : decode cX11_command 96 = .ok (.aload_n 1, 1) := dk_43 (dk_at dksX11_command_3 4 rfl rfl)
theorem dX11_command_97 : decode cX11_command 97 = .ok (.ldc 141, 2) := dk_18 141 (dk_at dksX11_command_3 5 rfl rfl)
theorem dX11_command_99 : decode cX11_command 99 = .ok (.invokevirtual 135, 3) := dk_182 0 135 (dk_at dksX11_command_3 7 rfl rfl)
theorem dX11_command_102 : decode cX11_command 102 = .ok (.ifCond .eq 47, 3) := dk_153 0 47 (dk_at dksX11_command_3 10 rfl rfl)
theorem dX11_command_105 : decode cX11_command 105 = .ok (.iconst 2, 1) := dk_5 (dk_at dksX11_command_3 13 rfl rfl)
theorem dX11_command_106 : decode cX11_command 106 = .ok (.istore_n 2, 1) := dk_61 (dk_at dksX11_command_3 14 rfl rfl)
theorem dX11_command_107 : decode cX11_command 107 = .ok (.goto 42, 3) := dk_167 0 42 (dk_at dksX11_command_3 15 rfl rfl)
theorem dX11_command_110 : decode cX11_command 110 = .ok (.aload_n 1, 1) := dk_43 (dk_at dksX11_command_3 18 rfl rfl)
theorem dX11_command_111 : decode cX11_command 111 = .ok (.ldc 143, 2) := dk_18 143 (dk_at dksX11_command_3 19 rfl rfl)
theorem dX11_command_113 : decode cX11_command 113 = .ok (.invokevirtual 135, 3) := dk_182 0 135 (dk_at dksX11_command_3 21 rfl rfl)
theorem dX11_command_116 : decode cX11_command 116 = .ok (.ifCond .eq 33, 3) := dk_153 0 33 (dk_at dksX11_command_4 0 rfl rfl)
theorem dX11_command_119 : decode cX11_command 119 = .ok (.iconst 3, 1) := dk_6 (dk_at dksX11_command_4 3 rfl rfl)
theorem dX11_command_120 : decode cX11_command 120 = .ok (.istore_n 2, 1) := dk_61 (dk_at dksX11_command_4 4 rfl rfl)
theorem dX11_command_121 : decode cX11_command 121 = .ok (.goto 28, 3) := dk_167 0 28 (dk_at dksX11_command_4 5 rfl rfl)
theorem dX11_command_124 : decode cX11_command 124 = .ok (.aload_n 1, 1) := dk_43 (dk_at dksX11_command_4 8 rfl rfl)
theorem dX11_command_125 : decode cX11_command 125 = .ok (.ldc 145, 2) := dk_18 145 (dk_at dksX11_command_4 9 rfl rfl)
theorem dX11_command_127 : decode cX11_command 127 = .ok (.invokevirtual 135, 3) := dk_182 0 135 (dk_at dksX11_command_4 11 rfl rfl)
theorem dX11_command_130 : decode cX11_command 130 = .ok (.ifCond .eq 19, 3) := dk_153 0 19 (dk_at dksX11_command_4 14 rfl rfl)
theorem dX11_command_133 : decode cX11_command 133 = .ok (.iconst 4, 1) := dk_7 (dk_at dksX11_command_4 17 rfl rfl)
theorem dX11_command_134 : decode cX11_command 134 = .ok (.istore_n 2, 1) := dk_61 (dk_at dksX11_command_4 18 rfl rfl)
theorem dX11_command_135 : decode cX11_command 135 = .ok (.goto 14, 3) := dk_167 0 14 (dk_at dksX11_command_4 19 rfl rfl)
theorem dX11_command_138 : decode cX11_command 138 = .ok (.aload_n 1, 1) := dk_43 (dk_at dksX11_command_4 22 rfl rfl)
theorem dX11_command_139 : decode cX11_command 139 = .ok (.ldc 147, 2) := dk_18 147 (dk_at dksX11_command_5 0 rfl rfl)
theorem dX11_command_141 : decode cX11_command 141 = .ok (.invokevirtual 135, 3) := dk_182 0 135 (dk_at dksX11_command_5 2 rfl rfl)
theorem dX11_command_144 : decode cX11_command 144 = .ok (.ifCond .eq 5, 3) := dk_153 0 5 (dk_at dksX11_command_5 5 rfl rfl)
theorem dX11_command_147 : decode cX11_command 147 = .ok (.iconst 5, 1) := dk_8 (dk_at dksX11_command_5 8 rfl rfl)
theorem dX11_command_148 : decode cX11_command 148 = .ok (.istore_n 2, 1) := dk_61 (dk_at dksX11_command_5 9 rfl rfl)
theorem dX11_command_149 : decode cX11_command 149 = .ok (.iload_n 2, 1) := dk_28 (dk_at dksX11_command_5 10 rfl rfl)
theorem dX11_command_150 : decode cX11_command 150 = .ok (.tableswitch 80 0 5 #[38, 45, 52, 59, 66, 73], 38) := by decide +kernel
theorem dX11_command_188 : decode cX11_command 188 = .ok (.aload_n 0, 1) := dk_42 (dk_at dksX11_command_7 0 rfl rfl)
theorem dX11_command_189 : decode cX11_command 189 = .ok (.invokevirtual 149, 3) := dk_182 0 149 (dk_at dksX11_command_7 1 rfl rfl)
theorem dX11_command_192 : decode cX11_command 192 = .ok (.goto 55, 3) := dk_167 0 55 (dk_at dksX11_command_7 4 rfl rfl)
theorem dX11_command_195 : decode cX11_command 195 = .ok (.aload_n 0, 1) := dk_42 (dk_at dksX11_command_7 7 rfl rfl)
theorem dX11_command_196 : decode cX11_command 196 = .ok (.invokevirtual 153, 3) := dk_182 0 153 (dk_at dksX11_command_7 8 rfl rfl)
theorem dX11_command_199 : decode cX11_command 199 = .ok (.goto 48, 3) := dk_167 0 48 (dk_at dksX11_command_7 11 rfl rfl)
theorem dX11_command_202 : decode cX11_command 202 = .ok (.aload_n 0, 1) := dk_42 (dk_at dksX11_command_7 14 rfl rfl)
theorem dX11_command_203 : decode cX11_command 203 = .ok (.invokevirtual 156, 3) := dk_182 0 156 (dk_at dksX11_command_7 15 rfl rfl)
theorem dX11_command_206 : decode cX11_command 206 = .ok (.goto 41, 3) := dk_167 0 41 (dk_at dksX11_command_7 18 rfl rfl)
theorem dX11_command_209 : decode cX11_command 209 = .ok (.aload_n 0, 1) := dk_42 (dk_at dksX11_command_7 21 rfl rfl)
theorem dX11_command_210 : decode cX11_command 210 = .ok (.invokevirtual 159, 3) := dk_182 0 159 (dk_at dksX11_command_8 0 rfl rfl)
theorem dX11_command_213 : decode cX11_command 213 = .ok (.goto 34, 3) := dk_167 0 34 (dk_at dksX11_command_8 3 rfl rfl)
theorem dX11_command_216 : decode cX11_command 216 = .ok (.aload_n 0, 1) := dk_42 (dk_at dksX11_command_8 6 rfl rfl)
theorem dX11_command_217 : decode cX11_command 217 = .ok (.invokevirtual 162, 3) := dk_182 0 162 (dk_at dksX11_command_8 7 rfl rfl)
theorem dX11_command_220 : decode cX11_command 220 = .ok (.goto 27, 3) := dk_167 0 27 (dk_at dksX11_command_8 10 rfl rfl)
theorem dX11_command_223 : decode cX11_command 223 = .ok (.aload_n 0, 1) := dk_42 (dk_at dksX11_command_8 13 rfl rfl)
theorem dX11_command_224 : decode cX11_command 224 = .ok (.invokevirtual 165, 3) := dk_182 0 165 (dk_at dksX11_command_8 14 rfl rfl)
theorem dX11_command_227 : decode cX11_command 227 = .ok (.goto 20, 3) := dk_167 0 20 (dk_at dksX11_command_8 17 rfl rfl)
theorem dX11_command_230 : decode cX11_command 230 = .ok (.new 99, 3) := dk_187 0 99 (dk_at dksX11_command_8 20 rfl rfl)
theorem dX11_command_233 : decode cX11_command 233 = .ok (.dup, 1) := dk_89 (dk_at dksX11_command_8 23 rfl rfl)
theorem dX11_command_234 : decode cX11_command 234 = .ok (.invokedynamic 168, 5) := by decide +kernel
theorem dX11_command_239 : decode cX11_command 239 = .ok (.invokedynamic 171, 5) := by decide +kernel
theorem dX11_command_244 : decode cX11_command 244 = .ok (.invokespecial 106, 3) := dk_183 0 106 (dk_at dksX11_command_9 10 rfl rfl)
theorem dX11_command_247 : decode cX11_command 247 = .ok (.areturn, 1) := dk_176 (dk_at dksX11_command_9 13 rfl rfl)
abbrev cX11_word : ByteArray := prog_6_method_11_code
def yX11_word : MethodName := ⟨RX11, "word", "()Ljava/lang/String;"⟩
def dkwX11_word_5 : List UInt8 := [182, 0, 85, 153, 0, 7, 4, 167, 0, 4, 3, 182, 0, 38, 43, 182, 0, 81, 176]
abbrev dktX11_word_5 : List UInt8 := dkwX11_word_5 ++ []
def dkwX11_word_4 : List UInt8 := [187, 0, 64, 89, 183, 0, 66, 18, 69, 182, 0, 71, 43, 182, 0, 75, 18, 69, 182, 0, 71, 182, 0, 81]
abbrev dktX11_word_4 : List UInt8 := dkwX11_word_4 ++ dktX11_word_5
def dkwX11_word_3 : List UInt8 := [42, 89, 180, 0, 15, 4, 96, 181, 0, 15, 167, 255, 184, 42, 43, 182, 0, 91, 158, 0, 39, 18, 67]
abbrev dktX11_word_3 : List UInt8 := dkwX11_word_3 ++ dktX11_word_4
def dkwX11_word_2 : List UInt8 := [182, 0, 34, 182, 0, 78, 182, 0, 81, 182, 0, 85, 182, 0, 38, 43, 42, 182, 0, 34, 182, 0, 78, 87]
abbrev dktX11_word_2 : List UInt8 := dkwX11_word_2 ++ dktX11_word_3
def dkwX11_word_1 : List UInt8 := [163, 0, 60, 42, 18, 67, 187, 0, 64, 89, 183, 0, 66, 18, 69, 182, 0, 71, 43, 182, 0, 75, 42]
abbrev dktX11_word_1 : List UInt8 := dkwX11_word_1 ++ dktX11_word_2
def dkwX11_word_0 : List UInt8 := [187, 0, 64, 89, 183, 0, 66, 76, 42, 182, 0, 34, 16, 97, 161, 0, 69, 42, 182, 0, 34, 16, 122]
abbrev dktX11_word_0 : List UInt8 := dkwX11_word_0 ++ dktX11_word_1
theorem dksX11_word_0 : cX11_word.data.toList.drop 0 = dktX11_word_0 := by decide +kernel
theorem dksX11_word_1 : cX11_word.data.toList.drop 23 = dktX11_word_1 := dk_seg dksX11_word_0 23 rfl rfl
theorem dksX11_word_2 : cX11_word.data.toList.drop 46 = dktX11_word_2 := dk_seg dksX11_word_1 23 rfl rfl
theorem dksX11_word_3 : cX11_word.data.toList.drop 70 = dktX11_word_3 := dk_seg dksX11_word_2 24 rfl rfl
theorem dksX11_word_4 : cX11_word.data.toList.drop 93 = dktX11_word_4 := dk_seg dksX11_word_3 23 rfl rfl
theorem dksX11_word_5 : cX11_word.data.toList.drop 117 = dktX11_word_5 := dk_seg dksX11_word_4 24 rfl rfl
theorem dX11_word_0 : decode cX11_word 0 = .ok (.new 64, 3) := dk_187 0 64 (dk_at dksX11_word_0 0 rfl rfl)
theorem dX11_word_3 : decode cX11_word 3 = .ok (.dup, 1) := dk_89 (dk_at dksX11_word_0 3 rfl rfl)
theorem dX11_word_4 : decode cX11_word 4 = .ok (.invokespecial 66, 3) := dk_183 0 66 (dk_at dksX11_word_0 4 rfl rfl)
theorem dX11_word_7 : decode cX11_word 7 = .ok (.astore_n 1, 1) := dk_76 (dk_at dksX11_word_0 7 rfl rfl)
theorem dX11_word_8 : decode cX11_word 8 = .ok (.aload_n 0, 1) := dk_42 (dk_at dksX11_word_0 8 rfl rfl)
theorem dX11_word_9 : decode cX11_word 9 = .ok (.invokevirtual 34, 3) := dk_182 0 34 (dk_at dksX11_word_0 9 rfl rfl)
theorem dX11_word_12 : decode cX11_word 12 = .ok (.bipush 97, 2) := dk_16 97 (dk_at dksX11_word_0 12 rfl rfl)
theorem dX11_word_14 : decode cX11_word 14 = .ok (.if_icmp .lt 69, 3) := dk_161 0 69 (dk_at dksX11_word_0 14 rfl rfl)
theorem dX11_word_17 : decode cX11_word 17 = .ok (.aload_n 0, 1) := dk_42 (dk_at dksX11_word_0 17 rfl rfl)
theorem dX11_word_18 : decode cX11_word 18 = .ok (.invokevirtual 34, 3) := dk_182 0 34 (dk_at dksX11_word_0 18 rfl rfl)
theorem dX11_word_21 : decode cX11_word 21 = .ok (.bipush 122, 2) := dk_16 122 (dk_at dksX11_word_0 21 rfl rfl)
theorem dX11_word_23 : decode cX11_word 23 = .ok (.if_icmp .gt 60, 3) := dk_163 0 60 (dk_at dksX11_word_1 0 rfl rfl)
theorem dX11_word_26 : decode cX11_word 26 = .ok (.aload_n 0, 1) := dk_42 (dk_at dksX11_word_1 3 rfl rfl)
theorem dX11_word_27 : decode cX11_word 27 = .ok (.ldc 67, 2) := dk_18 67 (dk_at dksX11_word_1 4 rfl rfl)
theorem dX11_word_29 : decode cX11_word 29 = .ok (.new 64, 3) := dk_187 0 64 (dk_at dksX11_word_1 6 rfl rfl)
theorem dX11_word_32 : decode cX11_word 32 = .ok (.dup, 1) := dk_89 (dk_at dksX11_word_1 9 rfl rfl)
theorem dX11_word_33 : decode cX11_word 33 = .ok (.invokespecial 66, 3) := dk_183 0 66 (dk_at dksX11_word_1 10 rfl rfl)
theorem dX11_word_36 : decode cX11_word 36 = .ok (.ldc 69, 2) := dk_18 69 (dk_at dksX11_word_1 13 rfl rfl)
theorem dX11_word_38 : decode cX11_word 38 = .ok (.invokevirtual 71, 3) := dk_182 0 71 (dk_at dksX11_word_1 15 rfl rfl)
theorem dX11_word_41 : decode cX11_word 41 = .ok (.aload_n 1, 1) := dk_43 (dk_at dksX11_word_1 18 rfl rfl)
theorem dX11_word_42 : decode cX11_word 42 = .ok (.invokevirtual 75, 3) := dk_182 0 75 (dk_at dksX11_word_1 19 rfl rfl)
theorem dX11_word_45 : decode cX11_word 45 = .ok (.aload_n 0, 1) := dk_42 (dk_at dksX11_word_1 22 rfl rfl)
theorem dX11_word_46 : decode cX11_word 46 = .ok (.invokevirtual 34, 3) := dk_182 0 34 (dk_at dksX11_word_2 0 rfl rfl)
theorem dX11_word_49 : decode cX11_word 49 = .ok (.invokevirtual 78, 3) := dk_182 0 78 (dk_at dksX11_word_2 3 rfl rfl)
theorem dX11_word_52 : decode cX11_word 52 = .ok (.invokevirtual 81, 3) := dk_182 0 81 (dk_at dksX11_word_2 6 rfl rfl)
theorem dX11_word_55 : decode cX11_word 55 = .ok (.invokevirtual 85, 3) := dk_182 0 85 (dk_at dksX11_word_2 9 rfl rfl)
theorem dX11_word_58 : decode cX11_word 58 = .ok (.invokevirtual 38, 3) := dk_182 0 38 (dk_at dksX11_word_2 12 rfl rfl)
theorem dX11_word_61 : decode cX11_word 61 = .ok (.aload_n 1, 1) := dk_43 (dk_at dksX11_word_2 15 rfl rfl)
theorem dX11_word_62 : decode cX11_word 62 = .ok (.aload_n 0, 1) := dk_42 (dk_at dksX11_word_2 16 rfl rfl)
theorem dX11_word_63 : decode cX11_word 63 = .ok (.invokevirtual 34, 3) := dk_182 0 34 (dk_at dksX11_word_2 17 rfl rfl)
theorem dX11_word_66 : decode cX11_word 66 = .ok (.invokevirtual 78, 3) := dk_182 0 78 (dk_at dksX11_word_2 20 rfl rfl)
theorem dX11_word_69 : decode cX11_word 69 = .ok (.pop, 1) := dk_87 (dk_at dksX11_word_2 23 rfl rfl)
theorem dX11_word_70 : decode cX11_word 70 = .ok (.aload_n 0, 1) := dk_42 (dk_at dksX11_word_3 0 rfl rfl)
theorem dX11_word_71 : decode cX11_word 71 = .ok (.dup, 1) := dk_89 (dk_at dksX11_word_3 1 rfl rfl)
theorem dX11_word_72 : decode cX11_word 72 = .ok (.getfield 15, 3) := dk_180 0 15 (dk_at dksX11_word_3 2 rfl rfl)
theorem dX11_word_75 : decode cX11_word 75 = .ok (.iconst 1, 1) := dk_4 (dk_at dksX11_word_3 5 rfl rfl)
theorem dX11_word_76 : decode cX11_word 76 = .ok (.iadd, 1) := dk_96 (dk_at dksX11_word_3 6 rfl rfl)
theorem dX11_word_77 : decode cX11_word 77 = .ok (.putfield 15, 3) := dk_181 0 15 (dk_at dksX11_word_3 7 rfl rfl)
theorem dX11_word_80 : decode cX11_word 80 = .ok (.goto (-72), 3) := dk_167 255 184 (dk_at dksX11_word_3 10 rfl rfl)
theorem dX11_word_83 : decode cX11_word 83 = .ok (.aload_n 0, 1) := dk_42 (dk_at dksX11_word_3 13 rfl rfl)
theorem dX11_word_84 : decode cX11_word 84 = .ok (.aload_n 1, 1) := dk_43 (dk_at dksX11_word_3 14 rfl rfl)
theorem dX11_word_85 : decode cX11_word 85 = .ok (.invokevirtual 91, 3) := dk_182 0 91 (dk_at dksX11_word_3 15 rfl rfl)
theorem dX11_word_88 : decode cX11_word 88 = .ok (.ifCond .le 39, 3) := dk_158 0 39 (dk_at dksX11_word_3 18 rfl rfl)
theorem dX11_word_91 : decode cX11_word 91 = .ok (.ldc 67, 2) := dk_18 67 (dk_at dksX11_word_3 21 rfl rfl)
theorem dX11_word_93 : decode cX11_word 93 = .ok (.new 64, 3) := dk_187 0 64 (dk_at dksX11_word_4 0 rfl rfl)
theorem dX11_word_96 : decode cX11_word 96 = .ok (.dup, 1) := dk_89 (dk_at dksX11_word_4 3 rfl rfl)
theorem dX11_word_97 : decode cX11_word 97 = .ok (.invokespecial 66, 3) := dk_183 0 66 (dk_at dksX11_word_4 4 rfl rfl)
theorem dX11_word_100 : decode cX11_word 100 = .ok (.ldc 69, 2) := dk_18 69 (dk_at dksX11_word_4 7 rfl rfl)
theorem dX11_word_102 : decode cX11_word 102 = .ok (.invokevirtual 71, 3) := dk_182 0 71 (dk_at dksX11_word_4 9 rfl rfl)
theorem dX11_word_105 : decode cX11_word 105 = .ok (.aload_n 1, 1) := dk_43 (dk_at dksX11_word_4 12 rfl rfl)
theorem dX11_word_106 : decode cX11_word 106 = .ok (.invokevirtual 75, 3) := dk_182 0 75 (dk_at dksX11_word_4 13 rfl rfl)
theorem dX11_word_109 : decode cX11_word 109 = .ok (.ldc 69, 2) := dk_18 69 (dk_at dksX11_word_4 16 rfl rfl)
theorem dX11_word_111 : decode cX11_word 111 = .ok (.invokevirtual 71, 3) := dk_182 0 71 (dk_at dksX11_word_4 18 rfl rfl)
theorem dX11_word_114 : decode cX11_word 114 = .ok (.invokevirtual 81, 3) := dk_182 0 81 (dk_at dksX11_word_4 21 rfl rfl)
theorem dX11_word_117 : decode cX11_word 117 = .ok (.invokevirtual 85, 3) := dk_182 0 85 (dk_at dksX11_word_5 0 rfl rfl)
theorem dX11_word_120 : decode cX11_word 120 = .ok (.ifCond .eq 7, 3) := dk_153 0 7 (dk_at dksX11_word_5 3 rfl rfl)
theorem dX11_word_123 : decode cX11_word 123 = .ok (.iconst 1, 1) := dk_4 (dk_at dksX11_word_5 6 rfl rfl)
theorem dX11_word_124 : decode cX11_word 124 = .ok (.goto 4, 3) := dk_167 0 4 (dk_at dksX11_word_5 7 rfl rfl)
theorem dX11_word_127 : decode cX11_word 127 = .ok (.iconst 0, 1) := dk_3 (dk_at dksX11_word_5 10 rfl rfl)
theorem dX11_word_128 : decode cX11_word 128 = .ok (.invokevirtual 38, 3) := dk_182 0 38 (dk_at dksX11_word_5 11 rfl rfl)
theorem dX11_word_131 : decode cX11_word 131 = .ok (.aload_n 1, 1) := dk_43 (dk_at dksX11_word_5 14 rfl rfl)
theorem dX11_word_132 : decode cX11_word 132 = .ok (.invokevirtual 81, 3) := dk_182 0 81 (dk_at dksX11_word_5 15 rfl rfl)
theorem dX11_word_135 : decode cX11_word 135 = .ok (.areturn, 1) := dk_176 (dk_at dksX11_word_5 18 rfl rfl)
abbrev cX11_here : ByteArray := prog_6_method_2_code
def yX11_here : MethodName := ⟨RX11, "here", "()C"⟩
def dkwX11_here_1 : List UInt8 := [185, 0, 25, 2, 0, 167, 0, 5, 16, 10, 172]
abbrev dktX11_here_1 : List UInt8 := dkwX11_here_1 ++ []
def dkwX11_here_0 : List UInt8 := [42, 180, 0, 15, 42, 180, 0, 9, 185, 0, 19, 1, 0, 162, 0, 19, 42, 180, 0, 9, 42, 180, 0, 15]
abbrev dktX11_here_0 : List UInt8 := dkwX11_here_0 ++ dktX11_here_1
theorem dksX11_here_0 : cX11_here.data.toList.drop 0 = dktX11_here_0 := by decide +kernel
theorem dksX11_here_1 : cX11_here.data.toList.drop 24 = dktX11_here_1 := dk_seg dksX11_here_0 24 rfl rfl
theorem dX11_here_0 : decode cX11_here 0 = .ok (.aload_n 0, 1) := dk_42 (dk_at dksX11_here_0 0 rfl rfl)
theorem dX11_here_1 : decode cX11_here 1 = .ok (.getfield 15, 3) := dk_180 0 15 (dk_at dksX11_here_0 1 rfl rfl)
theorem dX11_here_4 : decode cX11_here 4 = .ok (.aload_n 0, 1) := dk_42 (dk_at dksX11_here_0 4 rfl rfl)
theorem dX11_here_5 : decode cX11_here 5 = .ok (.getfield 9, 3) := dk_180 0 9 (dk_at dksX11_here_0 5 rfl rfl)
theorem dX11_here_8 : decode cX11_here 8 = .ok (.invokeinterface 19 1, 5) := by decide +kernel
theorem dX11_here_13 : decode cX11_here 13 = .ok (.if_icmp .ge 19, 3) := dk_162 0 19 (dk_at dksX11_here_0 13 rfl rfl)
theorem dX11_here_16 : decode cX11_here 16 = .ok (.aload_n 0, 1) := dk_42 (dk_at dksX11_here_0 16 rfl rfl)
theorem dX11_here_17 : decode cX11_here 17 = .ok (.getfield 9, 3) := dk_180 0 9 (dk_at dksX11_here_0 17 rfl rfl)
theorem dX11_here_20 : decode cX11_here 20 = .ok (.aload_n 0, 1) := dk_42 (dk_at dksX11_here_0 20 rfl rfl)
theorem dX11_here_21 : decode cX11_here 21 = .ok (.getfield 15, 3) := dk_180 0 15 (dk_at dksX11_here_0 21 rfl rfl)
theorem dX11_here_24 : decode cX11_here 24 = .ok (.invokeinterface 25 2, 5) := by decide +kernel
theorem dX11_here_29 : decode cX11_here 29 = .ok (.goto 5, 3) := dk_167 0 5 (dk_at dksX11_here_1 5 rfl rfl)
theorem dX11_here_32 : decode cX11_here 32 = .ok (.bipush 10, 2) := dk_16 10 (dk_at dksX11_here_1 8 rfl rfl)
theorem dX11_here_34 : decode cX11_here 34 = .ok (.ireturn, 1) := dk_172 (dk_at dksX11_here_1 10 rfl rfl)
abbrev cX11_need : ByteArray := prog_6_method_3_code
def yX11_need : MethodName := ⟨RX11, "need", "(Z)V"⟩
def dkwX11_need_0 : List UInt8 := [27, 154, 0, 15, 187, 0, 29, 89, 42, 180, 0, 15, 183, 0, 31, 191, 177]
abbrev dktX11_need_0 : List UInt8 := dkwX11_need_0 ++ []
theorem dksX11_need_0 : cX11_need.data.toList.drop 0 = dktX11_need_0 := by decide +kernel
theorem dX11_need_0 : decode cX11_need 0 = .ok (.iload_n 1, 1) := dk_27 (dk_at dksX11_need_0 0 rfl rfl)
theorem dX11_need_1 : decode cX11_need 1 = .ok (.ifCond .ne 15, 3) := dk_154 0 15 (dk_at dksX11_need_0 1 rfl rfl)
theorem dX11_need_4 : decode cX11_need 4 = .ok (.new 29, 3) := dk_187 0 29 (dk_at dksX11_need_0 4 rfl rfl)
theorem dX11_need_7 : decode cX11_need 7 = .ok (.dup, 1) := dk_89 (dk_at dksX11_need_0 7 rfl rfl)
theorem dX11_need_8 : decode cX11_need 8 = .ok (.aload_n 0, 1) := dk_42 (dk_at dksX11_need_0 8 rfl rfl)
theorem dX11_need_9 : decode cX11_need 9 = .ok (.getfield 15, 3) := dk_180 0 15 (dk_at dksX11_need_0 9 rfl rfl)
theorem dX11_need_12 : decode cX11_need 12 = .ok (.invokespecial 31, 3) := dk_183 0 31 (dk_at dksX11_need_0 12 rfl rfl)
theorem dX11_need_15 : decode cX11_need 15 = .ok (.athrow, 1) := dk_191 (dk_at dksX11_need_0 15 rfl rfl)
theorem dX11_need_16 : decode cX11_need 16 = .ok (.return_, 1) := dk_177 (dk_at dksX11_need_0 16 rfl rfl)
abbrev cX11_letting : ByteArray := prog_6_method_12_code
def yX11_letting : MethodName := ⟨RX11, "letting", "()LBoxSpans$Command;"⟩
def dkwX11_letting_1 : List UInt8 := [186, 0, 101, 0, 0, 27, 28, 45, 186, 0, 105, 0, 0, 183, 0, 106, 176]
abbrev dktX11_letting_1 : List UInt8 := dkwX11_letting_1 ++ []
def dkwX11_letting_0 : List UInt8 := [42, 182, 0, 92, 60, 42, 182, 0, 92, 61, 42, 182, 0, 95, 78, 187, 0, 99, 89, 27, 28, 45]
abbrev dktX11_letting_0 : List UInt8 := dkwX11_letting_0 ++ dktX11_letting_1
theorem dksX11_letting_0 : cX11_letting.data.toList.drop 0 = dktX11_letting_0 := by decide +kernel
theorem dksX11_letting_1 : cX11_letting.data.toList.drop 22 = dktX11_letting_1 := dk_seg dksX11_letting_0 22 rfl rfl
theorem dX11_letting_0 : decode cX11_letting 0 = .ok (.aload_n 0, 1) := dk_42 (dk_at dksX11_letting_0 0 rfl rfl)
theorem dX11_letting_1 : decode cX11_letting 1 = .ok (.invokevirtual 92, 3) := dk_182 0 92 (dk_at dksX11_letting_0 1 rfl rfl)
theorem dX11_letting_4 : decode cX11_letting 4 = .ok (.istore_n 1, 1) := dk_60 (dk_at dksX11_letting_0 4 rfl rfl)
theorem dX11_letting_5 : decode cX11_letting 5 = .ok (.aload_n 0, 1) := dk_42 (dk_at dksX11_letting_0 5 rfl rfl)
theorem dX11_letting_6 : decode cX11_letting 6 = .ok (.invokevirtual 92, 3) := dk_182 0 92 (dk_at dksX11_letting_0 6 rfl rfl)
theorem dX11_letting_9 : decode cX11_letting 9 = .ok (.istore_n 2, 1) := dk_61 (dk_at dksX11_letting_0 9 rfl rfl)
theorem dX11_letting_10 : decode cX11_letting 10 = .ok (.aload_n 0, 1) := dk_42 (dk_at dksX11_letting_0 10 rfl rfl)
theorem dX11_letting_11 : decode cX11_letting 11 = .ok (.invokevirtual 95, 3) := dk_182 0 95 (dk_at dksX11_letting_0 11 rfl rfl)
theorem dX11_letting_14 : decode cX11_letting 14 = .ok (.astore_n 3, 1) := dk_78 (dk_at dksX11_letting_0 14 rfl rfl)
theorem dX11_letting_15 : decode cX11_letting 15 = .ok (.new 99, 3) := dk_187 0 99 (dk_at dksX11_letting_0 15 rfl rfl)
theorem dX11_letting_18 : decode cX11_letting 18 = .ok (.dup, 1) := dk_89 (dk_at dksX11_letting_0 18 rfl rfl)
theorem dX11_letting_19 : decode cX11_letting 19 = .ok (.iload_n 1, 1) := dk_27 (dk_at dksX11_letting_0 19 rfl rfl)
theorem dX11_letting_20 : decode cX11_letting 20 = .ok (.iload_n 2, 1) := dk_28 (dk_at dksX11_letting_0 20 rfl rfl)
theorem dX11_letting_21 : decode cX11_letting 21 = .ok (.aload_n 3, 1) := dk_45 (dk_at dksX11_letting_0 21 rfl rfl)
theorem dX11_letting_22 : decode cX11_letting 22 = .ok (.invokedynamic 101, 5) := by decide +kernel
theorem dX11_letting_27 : decode cX11_letting 27 = .ok (.iload_n 1, 1) := dk_27 (dk_at dksX11_letting_1 5 rfl rfl)
theorem dX11_letting_28 : decode cX11_letting 28 = .ok (.iload_n 2, 1) := dk_28 (dk_at dksX11_letting_1 6 rfl rfl)
theorem dX11_letting_29 : decode cX11_letting 29 = .ok (.aload_n 3, 1) := dk_45 (dk_at dksX11_letting_1 7 rfl rfl)
theorem dX11_letting_30 : decode cX11_letting 30 = .ok (.invokedynamic 105, 5) := by decide +kernel
theorem dX11_letting_35 : decode cX11_letting 35 = .ok (.invokespecial 106, 3) := dk_183 0 106 (dk_at dksX11_letting_1 13 rfl rfl)
theorem dX11_letting_38 : decode cX11_letting 38 = .ok (.areturn, 1) := dk_176 (dk_at dksX11_letting_1 16 rfl rfl)
abbrev cX11_digitBehind : ByteArray := prog_6_method_9_code
def yX11_digitBehind : MethodName := ⟨RX11, "digitBehind", "()I"⟩
def dkwX11_digitBehind_0 : List UInt8 := [42, 16, 32, 182, 0, 49, 42, 182, 0, 46, 172]
abbrev dktX11_digitBehind_0 : List UInt8 := dkwX11_digitBehind_0 ++ []
theorem dksX11_digitBehind_0 : cX11_digitBehind.data.toList.drop 0 = dktX11_digitBehind_0 := by decide +kernel
theorem dX11_digitBehind_0 : decode cX11_digitBehind 0 = .ok (.aload_n 0, 1) := dk_42 (dk_at dksX11_digitBehind_0 0 rfl rfl)
theorem dX11_digitBehind_1 : decode cX11_digitBehind 1 = .ok (.bipush 32, 2) := dk_16 32 (dk_at dksX11_digitBehind_0 1 rfl rfl)
theorem dX11_digitBehind_3 : decode cX11_digitBehind 3 = .ok (.invokevirtual 49, 3) := dk_182 0 49 (dk_at dksX11_digitBehind_0 3 rfl rfl)
theorem dX11_digitBehind_6 : decode cX11_digitBehind 6 = .ok (.aload_n 0, 1) := dk_42 (dk_at dksX11_digitBehind_0 6 rfl rfl)
theorem dX11_digitBehind_7 : decode cX11_digitBehind 7 = .ok (.invokevirtual 46, 3) := dk_182 0 46 (dk_at dksX11_digitBehind_0 7 rfl rfl)
theorem dX11_digitBehind_10 : decode cX11_digitBehind 10 = .ok (.ireturn, 1) := dk_172 (dk_at dksX11_digitBehind_0 10 rfl rfl)
abbrev cX11_take : ByteArray := prog_6_method_4_code
def yX11_take : MethodName := ⟨RX11, "take", "(C)V"⟩
def dkwX11_take_1 : List UInt8 := [181, 0, 15, 177]
abbrev dktX11_take_1 : List UInt8 := dkwX11_take_1 ++ []
def dkwX11_take_0 : List UInt8 := [42, 42, 182, 0, 34, 27, 160, 0, 7, 4, 167, 0, 4, 3, 182, 0, 38, 42, 89, 180, 0, 15, 4, 96]
abbrev dktX11_take_0 : List UInt8 := dkwX11_take_0 ++ dktX11_take_1
theorem dksX11_take_0 : cX11_take.data.toList.drop 0 = dktX11_take_0 := by decide +kernel
theorem dksX11_take_1 : cX11_take.data.toList.drop 24 = dktX11_take_1 := dk_seg dksX11_take_0 24 rfl rfl
theorem dX11_take_0 : decode cX11_take 0 = .ok (.aload_n 0, 1) := dk_42 (dk_at dksX11_take_0 0 rfl rfl)
theorem dX11_take_1 : decode cX11_take 1 = .ok (.aload_n 0, 1) := dk_42 (dk_at dksX11_take_0 1 rfl rfl)
theorem dX11_take_2 : decode cX11_take 2 = .ok (.invokevirtual 34, 3) := dk_182 0 34 (dk_at dksX11_take_0 2 rfl rfl)
theorem dX11_take_5 : decode cX11_take 5 = .ok (.iload_n 1, 1) := dk_27 (dk_at dksX11_take_0 5 rfl rfl)
theorem dX11_take_6 : decode cX11_take 6 = .ok (.if_icmp .ne 7, 3) := dk_160 0 7 (dk_at dksX11_take_0 6 rfl rfl)
theorem dX11_take_9 : decode cX11_take 9 = .ok (.iconst 1, 1) := dk_4 (dk_at dksX11_take_0 9 rfl rfl)
theorem dX11_take_10 : decode cX11_take 10 = .ok (.goto 4, 3) := dk_167 0 4 (dk_at dksX11_take_0 10 rfl rfl)
theorem dX11_take_13 : decode cX11_take 13 = .ok (.iconst 0, 1) := dk_3 (dk_at dksX11_take_0 13 rfl rfl)
theorem dX11_take_14 : decode cX11_take 14 = .ok (.invokevirtual 38, 3) := dk_182 0 38 (dk_at dksX11_take_0 14 rfl rfl)
theorem dX11_take_17 : decode cX11_take 17 = .ok (.aload_n 0, 1) := dk_42 (dk_at dksX11_take_0 17 rfl rfl)
theorem dX11_take_18 : decode cX11_take 18 = .ok (.dup, 1) := dk_89 (dk_at dksX11_take_0 18 rfl rfl)
theorem dX11_take_19 : decode cX11_take 19 = .ok (.getfield 15, 3) := dk_180 0 15 (dk_at dksX11_take_0 19 rfl rfl)
theorem dX11_take_22 : decode cX11_take 22 = .ok (.iconst 1, 1) := dk_4 (dk_at dksX11_take_0 22 rfl rfl)
theorem dX11_take_23 : decode cX11_take 23 = .ok (.iadd, 1) := dk_96 (dk_at dksX11_take_0 23 rfl rfl)
theorem dX11_take_24 : decode cX11_take 24 = .ok (.putfield 15, 3) := dk_181 0 15 (dk_at dksX11_take_1 0 rfl rfl)
theorem dX11_take_27 : decode cX11_take 27 = .ok (.return_, 1) := dk_177 (dk_at dksX11_take_1 3 rfl rfl)
abbrev cX11_digit : ByteArray := prog_6_method_6_code
def yX11_digit : MethodName := ⟨RX11, "digit", "()I"⟩
def dkwX11_digit_1 : List UInt8 := [180, 0, 15, 4, 100, 185, 0, 25, 2, 0, 16, 48, 100, 172]
abbrev dktX11_digit_1 : List UInt8 := dkwX11_digit_1 ++ []
def dkwX11_digit_0 : List UInt8 := [42, 42, 182, 0, 42, 182, 0, 38, 42, 89, 180, 0, 15, 4, 96, 181, 0, 15, 42, 180, 0, 9, 42]
abbrev dktX11_digit_0 : List UInt8 := dkwX11_digit_0 ++ dktX11_digit_1
theorem dksX11_digit_0 : cX11_digit.data.toList.drop 0 = dktX11_digit_0 := by decide +kernel
theorem dksX11_digit_1 : cX11_digit.data.toList.drop 23 = dktX11_digit_1 := dk_seg dksX11_digit_0 23 rfl rfl
theorem dX11_digit_0 : decode cX11_digit 0 = .ok (.aload_n 0, 1) := dk_42 (dk_at dksX11_digit_0 0 rfl rfl)
theorem dX11_digit_1 : decode cX11_digit 1 = .ok (.aload_n 0, 1) := dk_42 (dk_at dksX11_digit_0 1 rfl rfl)
theorem dX11_digit_2 : decode cX11_digit 2 = .ok (.invokevirtual 42, 3) := dk_182 0 42 (dk_at dksX11_digit_0 2 rfl rfl)
theorem dX11_digit_5 : decode cX11_digit 5 = .ok (.invokevirtual 38, 3) := dk_182 0 38 (dk_at dksX11_digit_0 5 rfl rfl)
theorem dX11_digit_8 : decode cX11_digit 8 = .ok (.aload_n 0, 1) := dk_42 (dk_at dksX11_digit_0 8 rfl rfl)
theorem dX11_digit_9 : decode cX11_digit 9 = .ok (.dup, 1) := dk_89 (dk_at dksX11_digit_0 9 rfl rfl)
theorem dX11_digit_10 : decode cX11_digit 10 = .ok (.getfield 15, 3) := dk_180 0 15 (dk_at dksX11_digit_0 10 rfl rfl)
theorem dX11_digit_13 : decode cX11_digit 13 = .ok (.iconst 1, 1) := dk_4 (dk_at dksX11_digit_0 13 rfl rfl)
theorem dX11_digit_14 : decode cX11_digit 14 = .ok (.iadd, 1) := dk_96 (dk_at dksX11_digit_0 14 rfl rfl)
theorem dX11_digit_15 : decode cX11_digit 15 = .ok (.putfield 15, 3) := dk_181 0 15 (dk_at dksX11_digit_0 15 rfl rfl)
theorem dX11_digit_18 : decode cX11_digit 18 = .ok (.aload_n 0, 1) := dk_42 (dk_at dksX11_digit_0 18 rfl rfl)
theorem dX11_digit_19 : decode cX11_digit 19 = .ok (.getfield 9, 3) := dk_180 0 9 (dk_at dksX11_digit_0 19 rfl rfl)
theorem dX11_digit_22 : decode cX11_digit 22 = .ok (.aload_n 0, 1) := dk_42 (dk_at dksX11_digit_0 22 rfl rfl)
theorem dX11_digit_23 : decode cX11_digit 23 = .ok (.getfield 15, 3) := dk_180 0 15 (dk_at dksX11_digit_1 0 rfl rfl)
theorem dX11_digit_26 : decode cX11_digit 26 = .ok (.iconst 1, 1) := dk_4 (dk_at dksX11_digit_1 3 rfl rfl)
theorem dX11_digit_27 : decode cX11_digit 27 = .ok (.isub, 1) := dk_100 (dk_at dksX11_digit_1 4 rfl rfl)
theorem dX11_digit_28 : decode cX11_digit 28 = .ok (.invokeinterface 25 2, 5) := by decide +kernel
theorem dX11_digit_33 : decode cX11_digit 33 = .ok (.bipush 48, 2) := dk_16 48 (dk_at dksX11_digit_1 10 rfl rfl)
theorem dX11_digit_35 : decode cX11_digit 35 = .ok (.isub, 1) := dk_100 (dk_at dksX11_digit_1 12 rfl rfl)
theorem dX11_digit_36 : decode cX11_digit 36 = .ok (.ireturn, 1) := dk_172 (dk_at dksX11_digit_1 13 rfl rfl)
abbrev cX11_isDigit : ByteArray := prog_6_method_5_code
def yX11_isDigit : MethodName := ⟨RX11, "isDigit", "()Z"⟩
def dkwX11_isDigit_0 : List UInt8 := [42, 182, 0, 34, 16, 48, 161, 0, 16, 42, 182, 0, 34, 16, 57, 163, 0, 7, 4, 167, 0, 4, 3, 172]
abbrev dktX11_isDigit_0 : List UInt8 := dkwX11_isDigit_0 ++ []
theorem dksX11_isDigit_0 : cX11_isDigit.data.toList.drop 0 = dktX11_isDigit_0 := by decide +kernel
theorem dX11_isDigit_0 : decode cX11_isDigit 0 = .ok (.aload_n 0, 1) := dk_42 (dk_at dksX11_isDigit_0 0 rfl rfl)
theorem dX11_isDigit_1 : decode cX11_isDigit 1 = .ok (.invokevirtual 34, 3) := dk_182 0 34 (dk_at dksX11_isDigit_0 1 rfl rfl)
theorem dX11_isDigit_4 : decode cX11_isDigit 4 = .ok (.bipush 48, 2) := dk_16 48 (dk_at dksX11_isDigit_0 4 rfl rfl)
theorem dX11_isDigit_6 : decode cX11_isDigit 6 = .ok (.if_icmp .lt 16, 3) := dk_161 0 16 (dk_at dksX11_isDigit_0 6 rfl rfl)
theorem dX11_isDigit_9 : decode cX11_isDigit 9 = .ok (.aload_n 0, 1) := dk_42 (dk_at dksX11_isDigit_0 9 rfl rfl)
theorem dX11_isDigit_10 : decode cX11_isDigit 10 = .ok (.invokevirtual 34, 3) := dk_182 0 34 (dk_at dksX11_isDigit_0 10 rfl rfl)
theorem dX11_isDigit_13 : decode cX11_isDigit 13 = .ok (.bipush 57, 2) := dk_16 57 (dk_at dksX11_isDigit_0 13 rfl rfl)
theorem dX11_isDigit_15 : decode cX11_isDigit 15 = .ok (.if_icmp .gt 7, 3) := dk_163 0 7 (dk_at dksX11_isDigit_0 15 rfl rfl)
theorem dX11_isDigit_18 : decode cX11_isDigit 18 = .ok (.iconst 1, 1) := dk_4 (dk_at dksX11_isDigit_0 18 rfl rfl)
theorem dX11_isDigit_19 : decode cX11_isDigit 19 = .ok (.goto 4, 3) := dk_167 0 4 (dk_at dksX11_isDigit_0 19 rfl rfl)
theorem dX11_isDigit_22 : decode cX11_isDigit 22 = .ok (.iconst 0, 1) := dk_3 (dk_at dksX11_isDigit_0 22 rfl rfl)
theorem dX11_isDigit_23 : decode cX11_isDigit 23 = .ok (.ireturn, 1) := dk_172 (dk_at dksX11_isDigit_0 23 rfl rfl)
abbrev cX11_span : ByteArray := prog_6_method_10_code
def yX11_span : MethodName := ⟨RX11, "span", "()LBoxSpans$Span;"⟩
def dkwX11_span_0 : List UInt8 := [42, 182, 0, 56, 60, 42, 16, 45, 182, 0, 49, 187, 0, 59, 89, 27, 42, 182, 0, 53, 183, 0, 61, 176]
abbrev dktX11_span_0 : List UInt8 := dkwX11_span_0 ++ []
theorem dksX11_span_0 : cX11_span.data.toList.drop 0 = dktX11_span_0 := by decide +kernel
theorem dX11_span_0 : decode cX11_span 0 = .ok (.aload_n 0, 1) := dk_42 (dk_at dksX11_span_0 0 rfl rfl)
theorem dX11_span_1 : decode cX11_span 1 = .ok (.invokevirtual 56, 3) := dk_182 0 56 (dk_at dksX11_span_0 1 rfl rfl)
theorem dX11_span_4 : decode cX11_span 4 = .ok (.istore_n 1, 1) := dk_60 (dk_at dksX11_span_0 4 rfl rfl)
theorem dX11_span_5 : decode cX11_span 5 = .ok (.aload_n 0, 1) := dk_42 (dk_at dksX11_span_0 5 rfl rfl)
theorem dX11_span_6 : decode cX11_span 6 = .ok (.bipush 45, 2) := dk_16 45 (dk_at dksX11_span_0 6 rfl rfl)
theorem dX11_span_8 : decode cX11_span 8 = .ok (.invokevirtual 49, 3) := dk_182 0 49 (dk_at dksX11_span_0 8 rfl rfl)
theorem dX11_span_11 : decode cX11_span 11 = .ok (.new 59, 3) := dk_187 0 59 (dk_at dksX11_span_0 11 rfl rfl)
theorem dX11_span_14 : decode cX11_span 14 = .ok (.dup, 1) := dk_89 (dk_at dksX11_span_0 14 rfl rfl)
theorem dX11_span_15 : decode cX11_span 15 = .ok (.iload_n 1, 1) := dk_27 (dk_at dksX11_span_0 15 rfl rfl)
theorem dX11_span_16 : decode cX11_span 16 = .ok (.aload_n 0, 1) := dk_42 (dk_at dksX11_span_0 16 rfl rfl)
theorem dX11_span_17 : decode cX11_span 17 = .ok (.invokevirtual 53, 3) := dk_182 0 53 (dk_at dksX11_span_0 17 rfl rfl)
theorem dX11_span_20 : decode cX11_span 20 = .ok (.invokespecial 61, 3) := dk_183 0 61 (dk_at dksX11_span_0 20 rfl rfl)
theorem dX11_span_23 : decode cX11_span 23 = .ok (.areturn, 1) := dk_176 (dk_at dksX11_span_0 23 rfl rfl)
abbrev cX11_numberBehind : ByteArray := prog_6_method_8_code
def yX11_numberBehind : MethodName := ⟨RX11, "numberBehind", "()I"⟩
def dkwX11_numberBehind_0 : List UInt8 := [42, 16, 32, 182, 0, 49, 42, 182, 0, 53, 172]
abbrev dktX11_numberBehind_0 : List UInt8 := dkwX11_numberBehind_0 ++ []
theorem dksX11_numberBehind_0 : cX11_numberBehind.data.toList.drop 0 = dktX11_numberBehind_0 := by decide +kernel
theorem dX11_numberBehind_0 : decode cX11_numberBehind 0 = .ok (.aload_n 0, 1) := dk_42 (dk_at dksX11_numberBehind_0 0 rfl rfl)
theorem dX11_numberBehind_1 : decode cX11_numberBehind 1 = .ok (.bipush 32, 2) := dk_16 32 (dk_at dksX11_numberBehind_0 1 rfl rfl)
theorem dX11_numberBehind_3 : decode cX11_numberBehind 3 = .ok (.invokevirtual 49, 3) := dk_182 0 49 (dk_at dksX11_numberBehind_0 3 rfl rfl)
theorem dX11_numberBehind_6 : decode cX11_numberBehind 6 = .ok (.aload_n 0, 1) := dk_42 (dk_at dksX11_numberBehind_0 6 rfl rfl)
theorem dX11_numberBehind_7 : decode cX11_numberBehind 7 = .ok (.invokevirtual 53, 3) := dk_182 0 53 (dk_at dksX11_numberBehind_0 7 rfl rfl)
theorem dX11_numberBehind_10 : decode cX11_numberBehind 10 = .ok (.ireturn, 1) := dk_172 (dk_at dksX11_numberBehind_0 10 rfl rfl)
abbrev cX11_number : ByteArray := prog_6_method_7_code
def yX11_number : MethodName := ⟨RX11, "number", "()I"⟩
def dkwX11_number_1 : List UInt8 := [182, 0, 46, 96, 60, 132, 2, 1, 167, 255, 231, 27, 172]
abbrev dktX11_number_1 : List UInt8 := dkwX11_number_1 ++ []
def dkwX11_number_0 : List UInt8 := [42, 182, 0, 46, 60, 4, 61, 28, 6, 162, 0, 26, 42, 182, 0, 42, 153, 0, 19, 16, 10, 27, 104, 42]
abbrev dktX11_number_0 : List UInt8 := dkwX11_number_0 ++ dktX11_number_1
theorem dksX11_number_0 : cX11_number.data.toList.drop 0 = dktX11_number_0 := by decide +kernel
theorem dksX11_number_1 : cX11_number.data.toList.drop 24 = dktX11_number_1 := dk_seg dksX11_number_0 24 rfl rfl
theorem dX11_number_0 : decode cX11_number 0 = .ok (.aload_n 0, 1) := dk_42 (dk_at dksX11_number_0 0 rfl rfl)
theorem dX11_number_1 : decode cX11_number 1 = .ok (.invokevirtual 46, 3) := dk_182 0 46 (dk_at dksX11_number_0 1 rfl rfl)
theorem dX11_number_4 : decode cX11_number 4 = .ok (.istore_n 1, 1) := dk_60 (dk_at dksX11_number_0 4 rfl rfl)
theorem dX11_number_5 : decode cX11_number 5 = .ok (.iconst 1, 1) := dk_4 (dk_at dksX11_number_0 5 rfl rfl)
theorem dX11_number_6 : decode cX11_number 6 = .ok (.istore_n 2, 1) := dk_61 (dk_at dksX11_number_0 6 rfl rfl)
theorem dX11_number_7 : decode cX11_number 7 = .ok (.iload_n 2, 1) := dk_28 (dk_at dksX11_number_0 7 rfl rfl)
theorem dX11_number_8 : decode cX11_number 8 = .ok (.iconst 3, 1) := dk_6 (dk_at dksX11_number_0 8 rfl rfl)
theorem dX11_number_9 : decode cX11_number 9 = .ok (.if_icmp .ge 26, 3) := dk_162 0 26 (dk_at dksX11_number_0 9 rfl rfl)
theorem dX11_number_12 : decode cX11_number 12 = .ok (.aload_n 0, 1) := dk_42 (dk_at dksX11_number_0 12 rfl rfl)
theorem dX11_number_13 : decode cX11_number 13 = .ok (.invokevirtual 42, 3) := dk_182 0 42 (dk_at dksX11_number_0 13 rfl rfl)
theorem dX11_number_16 : decode cX11_number 16 = .ok (.ifCond .eq 19, 3) := dk_153 0 19 (dk_at dksX11_number_0 16 rfl rfl)
theorem dX11_number_19 : decode cX11_number 19 = .ok (.bipush 10, 2) := dk_16 10 (dk_at dksX11_number_0 19 rfl rfl)
theorem dX11_number_21 : decode cX11_number 21 = .ok (.iload_n 1, 1) := dk_27 (dk_at dksX11_number_0 21 rfl rfl)
theorem dX11_number_22 : decode cX11_number 22 = .ok (.imul, 1) := dk_104 (dk_at dksX11_number_0 22 rfl rfl)
theorem dX11_number_23 : decode cX11_number 23 = .ok (.aload_n 0, 1) := dk_42 (dk_at dksX11_number_0 23 rfl rfl)
theorem dX11_number_24 : decode cX11_number 24 = .ok (.invokevirtual 46, 3) := dk_182 0 46 (dk_at dksX11_number_1 0 rfl rfl)
theorem dX11_number_27 : decode cX11_number 27 = .ok (.iadd, 1) := dk_96 (dk_at dksX11_number_1 3 rfl rfl)
theorem dX11_number_28 : decode cX11_number 28 = .ok (.istore_n 1, 1) := dk_60 (dk_at dksX11_number_1 4 rfl rfl)
theorem dX11_number_29 : decode cX11_number 29 = .ok (.iinc 2 1, 3) := dk_132 2 1 (dk_at dksX11_number_1 5 rfl rfl)
theorem dX11_number_32 : decode cX11_number 32 = .ok (.goto (-25), 3) := dk_167 255 231 (dk_at dksX11_number_1 8 rfl rfl)
theorem dX11_number_35 : decode cX11_number 35 = .ok (.iload_n 1, 1) := dk_27 (dk_at dksX11_number_1 11 rfl rfl)
theorem dX11_number_36 : decode cX11_number 36 = .ok (.ireturn, 1) := dk_172 (dk_at dksX11_number_1 12 rfl rfl)
abbrev cX11_lambda_letting_0 : ByteArray := prog_6_method_33_code
def yX11_lambda_letting_0 : MethodName := ⟨RX11, "lambda$letting$0", "(IILBoxSpans$Span;LBoxSpans$Theatre;)I"⟩
def dkwX11_lambda_letting_0_1 : List UInt8 := [182, 0, 219, 184, 0, 222, 153, 0, 7, 4, 167, 0, 4, 3, 184, 0, 199, 172]
abbrev dktX11_lambda_letting_0_1 : List UInt8 := dkwX11_lambda_letting_0_1 ++ []
def dkwX11_lambda_letting_0_0 : List UInt8 := [26, 45, 182, 0, 237, 162, 0, 31, 27, 4, 16, 8, 184, 0, 212, 153, 0, 21, 44, 182, 0, 216, 44]
abbrev dktX11_lambda_letting_0_0 : List UInt8 := dkwX11_lambda_letting_0_0 ++ dktX11_lambda_letting_0_1
theorem dksX11_lambda_letting_0_0 : cX11_lambda_letting_0.data.toList.drop 0 = dktX11_lambda_letting_0_0 := by decide +kernel
theorem dksX11_lambda_letting_0_1 : cX11_lambda_letting_0.data.toList.drop 23 = dktX11_lambda_letting_0_1 := dk_seg dksX11_lambda_letting_0_0 23 rfl rfl
theorem dX11_lambda_letting_0_0 : decode cX11_lambda_letting_0 0 = .ok (.iload_n 0, 1) := dk_26 (dk_at dksX11_lambda_letting_0_0 0 rfl rfl)
theorem dX11_lambda_letting_0_1 : decode cX11_lambda_letting_0 1 = .ok (.aload_n 3, 1) := dk_45 (dk_at dksX11_lambda_letting_0_0 1 rfl rfl)
theorem dX11_lambda_letting_0_2 : decode cX11_lambda_letting_0 2 = .ok (.invokevirtual 237, 3) := dk_182 0 237 (dk_at dksX11_lambda_letting_0_0 2 rfl rfl)
theorem dX11_lambda_letting_0_5 : decode cX11_lambda_letting_0 5 = .ok (.if_icmp .ge 31, 3) := dk_162 0 31 (dk_at dksX11_lambda_letting_0_0 5 rfl rfl)
theorem dX11_lambda_letting_0_8 : decode cX11_lambda_letting_0 8 = .ok (.iload_n 1, 1) := dk_27 (dk_at dksX11_lambda_letting_0_0 8 rfl rfl)
theorem dX11_lambda_letting_0_9 : decode cX11_lambda_letting_0 9 = .ok (.iconst 1, 1) := dk_4 (dk_at dksX11_lambda_letting_0_0 9 rfl rfl)
theorem dX11_lambda_letting_0_10 : decode cX11_lambda_letting_0 10 = .ok (.bipush 8, 2) := dk_16 8 (dk_at dksX11_lambda_letting_0_0 10 rfl rfl)
theorem dX11_lambda_letting_0_12 : decode cX11_lambda_letting_0 12 = .ok (.invokestatic 212, 3) := dk_184 0 212 (dk_at dksX11_lambda_letting_0_0 12 rfl rfl)
theorem dX11_lambda_letting_0_15 : decode cX11_lambda_letting_0 15 = .ok (.ifCond .eq 21, 3) := dk_153 0 21 (dk_at dksX11_lambda_letting_0_0 15 rfl rfl)
theorem dX11_lambda_letting_0_18 : decode cX11_lambda_letting_0 18 = .ok (.aload_n 2, 1) := dk_44 (dk_at dksX11_lambda_letting_0_0 18 rfl rfl)
theorem dX11_lambda_letting_0_19 : decode cX11_lambda_letting_0 19 = .ok (.invokevirtual 216, 3) := dk_182 0 216 (dk_at dksX11_lambda_letting_0_0 19 rfl rfl)
theorem dX11_lambda_letting_0_22 : decode cX11_lambda_letting_0 22 = .ok (.aload_n 2, 1) := dk_44 (dk_at dksX11_lambda_letting_0_0 22 rfl rfl)
theorem dX11_lambda_letting_0_23 : decode cX11_lambda_letting_0 23 = .ok (.invokevirtual 219, 3) := dk_182 0 219 (dk_at dksX11_lambda_letting_0_1 0 rfl rfl)
theorem dX11_lambda_letting_0_26 : decode cX11_lambda_letting_0 26 = .ok (.invokestatic 222, 3) := dk_184 0 222 (dk_at dksX11_lambda_letting_0_1 3 rfl rfl)
theorem dX11_lambda_letting_0_29 : decode cX11_lambda_letting_0 29 = .ok (.ifCond .eq 7, 3) := dk_153 0 7 (dk_at dksX11_lambda_letting_0_1 6 rfl rfl)
theorem dX11_lambda_letting_0_32 : decode cX11_lambda_letting_0 32 = .ok (.iconst 1, 1) := dk_4 (dk_at dksX11_lambda_letting_0_1 9 rfl rfl)
theorem dX11_lambda_letting_0_33 : decode cX11_lambda_letting_0 33 = .ok (.goto 4, 3) := dk_167 0 4 (dk_at dksX11_lambda_letting_0_1 10 rfl rfl)
theorem dX11_lambda_letting_0_36 : decode cX11_lambda_letting_0 36 = .ok (.iconst 0, 1) := dk_3 (dk_at dksX11_lambda_letting_0_1 13 rfl rfl)
theorem dX11_lambda_letting_0_37 : decode cX11_lambda_letting_0 37 = .ok (.invokestatic 199, 3) := dk_184 0 199 (dk_at dksX11_lambda_letting_0_1 14 rfl rfl)
theorem dX11_lambda_letting_0_40 : decode cX11_lambda_letting_0 40 = .ok (.ireturn, 1) := dk_172 (dk_at dksX11_lambda_letting_0_1 17 rfl rfl)
abbrev cX11_lambda_letting_1 : ByteArray := prog_6_method_32_code
def yX11_lambda_letting_1 : MethodName := ⟨RX11, "lambda$letting$1", "(IILBoxSpans$Span;LBoxSpans$Theatre;)I"⟩
def dkwX11_lambda_letting_1_0 : List UInt8 := [45, 26, 27, 44, 182, 0, 233, 172]
abbrev dktX11_lambda_letting_1_0 : List UInt8 := dkwX11_lambda_letting_1_0 ++ []
theorem dksX11_lambda_letting_1_0 : cX11_lambda_letting_1.data.toList.drop 0 = dktX11_lambda_letting_1_0 := by decide +kernel
theorem dX11_lambda_letting_1_0 : decode cX11_lambda_letting_1 0 = .ok (.aload_n 3, 1) := dk_45 (dk_at dksX11_lambda_letting_1_0 0 rfl rfl)
theorem dX11_lambda_letting_1_1 : decode cX11_lambda_letting_1 1 = .ok (.iload_n 0, 1) := dk_26 (dk_at dksX11_lambda_letting_1_0 1 rfl rfl)
theorem dX11_lambda_letting_1_2 : decode cX11_lambda_letting_1 2 = .ok (.iload_n 1, 1) := dk_27 (dk_at dksX11_lambda_letting_1_0 2 rfl rfl)
theorem dX11_lambda_letting_1_3 : decode cX11_lambda_letting_1 3 = .ok (.aload_n 2, 1) := dk_44 (dk_at dksX11_lambda_letting_1_0 3 rfl rfl)
theorem dX11_lambda_letting_1_4 : decode cX11_lambda_letting_1 4 = .ok (.invokevirtual 233, 3) := dk_182 0 233 (dk_at dksX11_lambda_letting_1_0 4 rfl rfl)
theorem dX11_lambda_letting_1_7 : decode cX11_lambda_letting_1 7 = .ok (.ireturn, 1) := dk_172 (dk_at dksX11_lambda_letting_1_0 7 rfl rfl)
abbrev cX11_cancelling : ByteArray := prog_6_method_16_code
def yX11_cancelling : MethodName := ⟨RX11, "cancelling", "()LBoxSpans$Command;"⟩
def dkwX11_cancelling_1 : List UInt8 := [176]
abbrev dktX11_cancelling_1 : List UInt8 := dkwX11_cancelling_1 ++ []
def dkwX11_cancelling_0 : List UInt8 := [42, 182, 0, 56, 60, 187, 0, 99, 89, 27, 186, 0, 123, 0, 0, 27, 186, 0, 124, 0, 0, 183, 0, 106]
abbrev dktX11_cancelling_0 : List UInt8 := dkwX11_cancelling_0 ++ dktX11_cancelling_1
theorem dksX11_cancelling_0 : cX11_cancelling.data.toList.drop 0 = dktX11_cancelling_0 := by decide +kernel
theorem dksX11_cancelling_1 : cX11_cancelling.data.toList.drop 24 = dktX11_cancelling_1 := dk_seg dksX11_cancelling_0 24 rfl rfl
theorem dX11_cancelling_0 : decode cX11_cancelling 0 = .ok (.aload_n 0, 1) := dk_42 (dk_at dksX11_cancelling_0 0 rfl rfl)
theorem dX11_cancelling_1 : decode cX11_cancelling 1 = .ok (.invokevirtual 56, 3) := dk_182 0 56 (dk_at dksX11_cancelling_0 1 rfl rfl)
theorem dX11_cancelling_4 : decode cX11_cancelling 4 = .ok (.istore_n 1, 1) := dk_60 (dk_at dksX11_cancelling_0 4 rfl rfl)
theorem dX11_cancelling_5 : decode cX11_cancelling 5 = .ok (.new 99, 3) := dk_187 0 99 (dk_at dksX11_cancelling_0 5 rfl rfl)
theorem dX11_cancelling_8 : decode cX11_cancelling 8 = .ok (.dup, 1) := dk_89 (dk_at dksX11_cancelling_0 8 rfl rfl)
theorem dX11_cancelling_9 : decode cX11_cancelling 9 = .ok (.iload_n 1, 1) := dk_27 (dk_at dksX11_cancelling_0 9 rfl rfl)
theorem dX11_cancelling_10 : decode cX11_cancelling 10 = .ok (.invokedynamic 123, 5) := by decide +kernel
theorem dX11_cancelling_15 : decode cX11_cancelling 15 = .ok (.iload_n 1, 1) := dk_27 (dk_at dksX11_cancelling_0 15 rfl rfl)
theorem dX11_cancelling_16 : decode cX11_cancelling 16 = .ok (.invokedynamic 124, 5) := by decide +kernel
theorem dX11_cancelling_21 : decode cX11_cancelling 21 = .ok (.invokespecial 106, 3) := dk_183 0 106 (dk_at dksX11_cancelling_0 21 rfl rfl)
theorem dX11_cancelling_24 : decode cX11_cancelling 24 = .ok (.areturn, 1) := dk_176 (dk_at dksX11_cancelling_1 0 rfl rfl)
abbrev cX11_lambda_cancelling_8 : ByteArray := prog_6_method_25_code
def yX11_lambda_cancelling_8 : MethodName := ⟨RX11, "lambda$cancelling$8", "(ILBoxSpans$Theatre;)I"⟩
def dkwX11_lambda_cancelling_8_0 : List UInt8 := [26, 43, 182, 0, 206, 185, 0, 196, 1, 0, 162, 0, 7, 4, 167, 0, 4, 3, 184, 0, 199, 172]
abbrev dktX11_lambda_cancelling_8_0 : List UInt8 := dkwX11_lambda_cancelling_8_0 ++ []
theorem dksX11_lambda_cancelling_8_0 : cX11_lambda_cancelling_8.data.toList.drop 0 = dktX11_lambda_cancelling_8_0 := by decide +kernel
theorem dX11_lambda_cancelling_8_0 : decode cX11_lambda_cancelling_8 0 = .ok (.iload_n 0, 1) := dk_26 (dk_at dksX11_lambda_cancelling_8_0 0 rfl rfl)
theorem dX11_lambda_cancelling_8_1 : decode cX11_lambda_cancelling_8 1 = .ok (.aload_n 1, 1) := dk_43 (dk_at dksX11_lambda_cancelling_8_0 1 rfl rfl)
theorem dX11_lambda_cancelling_8_2 : decode cX11_lambda_cancelling_8 2 = .ok (.invokevirtual 206, 3) := dk_182 0 206 (dk_at dksX11_lambda_cancelling_8_0 2 rfl rfl)
theorem dX11_lambda_cancelling_8_5 : decode cX11_lambda_cancelling_8 5 = .ok (.invokeinterface 196 1, 5) := by decide +kernel
theorem dX11_lambda_cancelling_8_10 : decode cX11_lambda_cancelling_8 10 = .ok (.if_icmp .ge 7, 3) := dk_162 0 7 (dk_at dksX11_lambda_cancelling_8_0 10 rfl rfl)
theorem dX11_lambda_cancelling_8_13 : decode cX11_lambda_cancelling_8 13 = .ok (.iconst 1, 1) := dk_4 (dk_at dksX11_lambda_cancelling_8_0 13 rfl rfl)
theorem dX11_lambda_cancelling_8_14 : decode cX11_lambda_cancelling_8 14 = .ok (.goto 4, 3) := dk_167 0 4 (dk_at dksX11_lambda_cancelling_8_0 14 rfl rfl)
theorem dX11_lambda_cancelling_8_17 : decode cX11_lambda_cancelling_8 17 = .ok (.iconst 0, 1) := dk_3 (dk_at dksX11_lambda_cancelling_8_0 17 rfl rfl)
theorem dX11_lambda_cancelling_8_18 : decode cX11_lambda_cancelling_8 18 = .ok (.invokestatic 199, 3) := dk_184 0 199 (dk_at dksX11_lambda_cancelling_8_0 18 rfl rfl)
theorem dX11_lambda_cancelling_8_21 : decode cX11_lambda_cancelling_8 21 = .ok (.ireturn, 1) := dk_172 (dk_at dksX11_lambda_cancelling_8_0 21 rfl rfl)
abbrev cX11_lambda_cancelling_9 : ByteArray := prog_6_method_24_code
def yX11_lambda_cancelling_9 : MethodName := ⟨RX11, "lambda$cancelling$9", "(ILBoxSpans$Theatre;)I"⟩
def dkwX11_lambda_cancelling_9_0 : List UInt8 := [43, 26, 182, 0, 203, 172]
abbrev dktX11_lambda_cancelling_9_0 : List UInt8 := dkwX11_lambda_cancelling_9_0 ++ []
theorem dksX11_lambda_cancelling_9_0 : cX11_lambda_cancelling_9.data.toList.drop 0 = dktX11_lambda_cancelling_9_0 := by decide +kernel
theorem dX11_lambda_cancelling_9_0 : decode cX11_lambda_cancelling_9 0 = .ok (.aload_n 1, 1) := dk_43 (dk_at dksX11_lambda_cancelling_9_0 0 rfl rfl)
theorem dX11_lambda_cancelling_9_1 : decode cX11_lambda_cancelling_9 1 = .ok (.iload_n 0, 1) := dk_26 (dk_at dksX11_lambda_cancelling_9_0 1 rfl rfl)
theorem dX11_lambda_cancelling_9_2 : decode cX11_lambda_cancelling_9 2 = .ok (.invokevirtual 203, 3) := dk_182 0 203 (dk_at dksX11_lambda_cancelling_9_0 2 rfl rfl)
theorem dX11_lambda_cancelling_9_5 : decode cX11_lambda_cancelling_9 5 = .ok (.ireturn, 1) := dk_172 (dk_at dksX11_lambda_cancelling_9_0 5 rfl rfl)
abbrev cX11_moving : ByteArray := prog_6_method_13_code
def yX11_moving : MethodName := ⟨RX11, "moving", "()LBoxSpans$Command;"⟩
def dkwX11_moving_2 : List UInt8 := [187, 0, 99, 89, 27, 29, 186, 0, 109, 0, 0, 27, 28, 29, 186, 0, 112, 0, 0, 183, 0, 106, 176]
abbrev dktX11_moving_2 : List UInt8 := dkwX11_moving_2 ++ []
def dkwX11_moving_1 : List UInt8 := [3, 61, 42, 28, 153, 0, 8, 16, 45, 167, 0, 5, 16, 43, 182, 0, 49, 42, 182, 0, 53, 62]
abbrev dktX11_moving_1 : List UInt8 := dkwX11_moving_1 ++ dktX11_moving_2
def dkwX11_moving_0 : List UInt8 := [42, 182, 0, 56, 60, 42, 16, 32, 182, 0, 49, 42, 182, 0, 34, 16, 45, 160, 0, 7, 4, 167, 0, 4]
abbrev dktX11_moving_0 : List UInt8 := dkwX11_moving_0 ++ dktX11_moving_1
theorem dksX11_moving_0 : cX11_moving.data.toList.drop 0 = dktX11_moving_0 := by decide +kernel
theorem dksX11_moving_1 : cX11_moving.data.toList.drop 24 = dktX11_moving_1 := dk_seg dksX11_moving_0 24 rfl rfl
theorem dksX11_moving_2 : cX11_moving.data.toList.drop 46 = dktX11_moving_2 := dk_seg dksX11_moving_1 22 rfl rfl
theorem dX11_moving_0 : decode cX11_moving 0 = .ok (.aload_n 0, 1) := dk_42 (dk_at dksX11_moving_0 0 rfl rfl)
theorem dX11_moving_1 : decode cX11_moving 1 = .ok (.invokevirtual 56, 3) := dk_182 0 56 (dk_at dksX11_moving_0 1 rfl rfl)
theorem dX11_moving_4 : decode cX11_moving 4 = .ok (.istore_n 1, 1) := dk_60 (dk_at dksX11_moving_0 4 rfl rfl)
theorem dX11_moving_5 : decode cX11_moving 5 = .ok (.aload_n 0, 1) := dk_42 (dk_at dksX11_moving_0 5 rfl rfl)
theorem dX11_moving_6 : decode cX11_moving 6 = .ok (.bipush 32, 2) := dk_16 32 (dk_at dksX11_moving_0 6 rfl rfl)
theorem dX11_moving_8 : decode cX11_moving 8 = .ok (.invokevirtual 49, 3) := dk_182 0 49 (dk_at dksX11_moving_0 8 rfl rfl)
theorem dX11_moving_11 : decode cX11_moving 11 = .ok (.aload_n 0, 1) := dk_42 (dk_at dksX11_moving_0 11 rfl rfl)
theorem dX11_moving_12 : decode cX11_moving 12 = .ok (.invokevirtual 34, 3) := dk_182 0 34 (dk_at dksX11_moving_0 12 rfl rfl)
theorem dX11_moving_15 : decode cX11_moving 15 = .ok (.bipush 45, 2) := dk_16 45 (dk_at dksX11_moving_0 15 rfl rfl)
theorem dX11_moving_17 : decode cX11_moving 17 = .ok (.if_icmp .ne 7, 3) := dk_160 0 7 (dk_at dksX11_moving_0 17 rfl rfl)
theorem dX11_moving_20 : decode cX11_moving 20 = .ok (.iconst 1, 1) := dk_4 (dk_at dksX11_moving_0 20 rfl rfl)
theorem dX11_moving_21 : decode cX11_moving 21 = .ok (.goto 4, 3) := dk_167 0 4 (dk_at dksX11_moving_0 21 rfl rfl)
theorem dX11_moving_24 : decode cX11_moving 24 = .ok (.iconst 0, 1) := dk_3 (dk_at dksX11_moving_1 0 rfl rfl)
theorem dX11_moving_25 : decode cX11_moving 25 = .ok (.istore_n 2, 1) := dk_61 (dk_at dksX11_moving_1 1 rfl rfl)
theorem dX11_moving_26 : decode cX11_moving 26 = .ok (.aload_n 0, 1) := dk_42 (dk_at dksX11_moving_1 2 rfl rfl)
theorem dX11_moving_27 : decode cX11_moving 27 = .ok (.iload_n 2, 1) := dk_28 (dk_at dksX11_moving_1 3 rfl rfl)
theorem dX11_moving_28 : decode cX11_moving 28 = .ok (.ifCond .eq 8, 3) := dk_153 0 8 (dk_at dksX11_moving_1 4 rfl rfl)
theorem dX11_moving_31 : decode cX11_moving 31 = .ok (.bipush 45, 2) := dk_16 45 (dk_at dksX11_moving_1 7 rfl rfl)
theorem dX11_moving_33 : decode cX11_moving 33 = .ok (.goto 5, 3) := dk_167 0 5 (dk_at dksX11_moving_1 9 rfl rfl)
theorem dX11_moving_36 : decode cX11_moving 36 = .ok (.bipush 43, 2) := dk_16 43 (dk_at dksX11_moving_1 12 rfl rfl)
theorem dX11_moving_38 : decode cX11_moving 38 = .ok (.invokevirtual 49, 3) := dk_182 0 49 (dk_at dksX11_moving_1 14 rfl rfl)
theorem dX11_moving_41 : decode cX11_moving 41 = .ok (.aload_n 0, 1) := dk_42 (dk_at dksX11_moving_1 17 rfl rfl)
theorem dX11_moving_42 : decode cX11_moving 42 = .ok (.invokevirtual 53, 3) := dk_182 0 53 (dk_at dksX11_moving_1 18 rfl rfl)
theorem dX11_moving_45 : decode cX11_moving 45 = .ok (.istore_n 3, 1) := dk_62 (dk_at dksX11_moving_1 21 rfl rfl)
theorem dX11_moving_46 : decode cX11_moving 46 = .ok (.new 99, 3) := dk_187 0 99 (dk_at dksX11_moving_2 0 rfl rfl)
theorem dX11_moving_49 : decode cX11_moving 49 = .ok (.dup, 1) := dk_89 (dk_at dksX11_moving_2 3 rfl rfl)
theorem dX11_moving_50 : decode cX11_moving 50 = .ok (.iload_n 1, 1) := dk_27 (dk_at dksX11_moving_2 4 rfl rfl)
theorem dX11_moving_51 : decode cX11_moving 51 = .ok (.iload_n 3, 1) := dk_29 (dk_at dksX11_moving_2 5 rfl rfl)
theorem dX11_moving_52 : decode cX11_moving 52 = .ok (.invokedynamic 109, 5) := by decide +kernel
theorem dX11_moving_57 : decode cX11_moving 57 = .ok (.iload_n 1, 1) := dk_27 (dk_at dksX11_moving_2 11 rfl rfl)
theorem dX11_moving_58 : decode cX11_moving 58 = .ok (.iload_n 2, 1) := dk_28 (dk_at dksX11_moving_2 12 rfl rfl)
theorem dX11_moving_59 : decode cX11_moving 59 = .ok (.iload_n 3, 1) := dk_29 (dk_at dksX11_moving_2 13 rfl rfl)
theorem dX11_moving_60 : decode cX11_moving 60 = .ok (.invokedynamic 112, 5) := by decide +kernel
theorem dX11_moving_65 : decode cX11_moving 65 = .ok (.invokespecial 106, 3) := dk_183 0 106 (dk_at dksX11_moving_2 19 rfl rfl)
theorem dX11_moving_68 : decode cX11_moving 68 = .ok (.areturn, 1) := dk_176 (dk_at dksX11_moving_2 22 rfl rfl)
abbrev cX11_lambda_moving_2 : ByteArray := prog_6_method_31_code
def yX11_lambda_moving_2 : MethodName := ⟨RX11, "lambda$moving$2", "(IILBoxSpans$Theatre;)I"⟩
def dkwX11_lambda_moving_2_1 : List UInt8 := [3, 184, 0, 199, 172]
abbrev dktX11_lambda_moving_2_1 : List UInt8 := dkwX11_lambda_moving_2_1 ++ []
def dkwX11_lambda_moving_2_0 : List UInt8 := [26, 44, 182, 0, 206, 185, 0, 196, 1, 0, 162, 0, 14, 27, 17, 2, 88, 162, 0, 7, 4, 167, 0, 4]
abbrev dktX11_lambda_moving_2_0 : List UInt8 := dkwX11_lambda_moving_2_0 ++ dktX11_lambda_moving_2_1
theorem dksX11_lambda_moving_2_0 : cX11_lambda_moving_2.data.toList.drop 0 = dktX11_lambda_moving_2_0 := by decide +kernel
theorem dksX11_lambda_moving_2_1 : cX11_lambda_moving_2.data.toList.drop 24 = dktX11_lambda_moving_2_1 := dk_seg dksX11_lambda_moving_2_0 24 rfl rfl
theorem dX11_lambda_moving_2_0 : decode cX11_lambda_moving_2 0 = .ok (.iload_n 0, 1) := dk_26 (dk_at dksX11_lambda_moving_2_0 0 rfl rfl)
theorem dX11_lambda_moving_2_1 : decode cX11_lambda_moving_2 1 = .ok (.aload_n 2, 1) := dk_44 (dk_at dksX11_lambda_moving_2_0 1 rfl rfl)
theorem dX11_lambda_moving_2_2 : decode cX11_lambda_moving_2 2 = .ok (.invokevirtual 206, 3) := dk_182 0 206 (dk_at dksX11_lambda_moving_2_0 2 rfl rfl)
theorem dX11_lambda_moving_2_5 : decode cX11_lambda_moving_2 5 = .ok (.invokeinterface 196 1, 5) := by decide +kernel
theorem dX11_lambda_moving_2_10 : decode cX11_lambda_moving_2 10 = .ok (.if_icmp .ge 14, 3) := dk_162 0 14 (dk_at dksX11_lambda_moving_2_0 10 rfl rfl)
theorem dX11_lambda_moving_2_13 : decode cX11_lambda_moving_2 13 = .ok (.iload_n 1, 1) := dk_27 (dk_at dksX11_lambda_moving_2_0 13 rfl rfl)
theorem dX11_lambda_moving_2_14 : decode cX11_lambda_moving_2 14 = .ok (.sipush 600, 3) := dk_17 2 88 (dk_at dksX11_lambda_moving_2_0 14 rfl rfl)
theorem dX11_lambda_moving_2_17 : decode cX11_lambda_moving_2 17 = .ok (.if_icmp .ge 7, 3) := dk_162 0 7 (dk_at dksX11_lambda_moving_2_0 17 rfl rfl)
theorem dX11_lambda_moving_2_20 : decode cX11_lambda_moving_2 20 = .ok (.iconst 1, 1) := dk_4 (dk_at dksX11_lambda_moving_2_0 20 rfl rfl)
theorem dX11_lambda_moving_2_21 : decode cX11_lambda_moving_2 21 = .ok (.goto 4, 3) := dk_167 0 4 (dk_at dksX11_lambda_moving_2_0 21 rfl rfl)
theorem dX11_lambda_moving_2_24 : decode cX11_lambda_moving_2 24 = .ok (.iconst 0, 1) := dk_3 (dk_at dksX11_lambda_moving_2_1 0 rfl rfl)
theorem dX11_lambda_moving_2_25 : decode cX11_lambda_moving_2 25 = .ok (.invokestatic 199, 3) := dk_184 0 199 (dk_at dksX11_lambda_moving_2_1 1 rfl rfl)
theorem dX11_lambda_moving_2_28 : decode cX11_lambda_moving_2 28 = .ok (.ireturn, 1) := dk_172 (dk_at dksX11_lambda_moving_2_1 4 rfl rfl)
abbrev cX11_lambda_moving_3 : ByteArray := prog_6_method_30_code
def yX11_lambda_moving_3 : MethodName := ⟨RX11, "lambda$moving$3", "(IZILBoxSpans$Theatre;)I"⟩
def dkwX11_lambda_moving_3_0 : List UInt8 := [45, 26, 27, 153, 0, 8, 28, 116, 167, 0, 4, 28, 182, 0, 230, 172]
abbrev dktX11_lambda_moving_3_0 : List UInt8 := dkwX11_lambda_moving_3_0 ++ []
theorem dksX11_lambda_moving_3_0 : cX11_lambda_moving_3.data.toList.drop 0 = dktX11_lambda_moving_3_0 := by decide +kernel
theorem dX11_lambda_moving_3_0 : decode cX11_lambda_moving_3 0 = .ok (.aload_n 3, 1) := dk_45 (dk_at dksX11_lambda_moving_3_0 0 rfl rfl)
theorem dX11_lambda_moving_3_1 : decode cX11_lambda_moving_3 1 = .ok (.iload_n 0, 1) := dk_26 (dk_at dksX11_lambda_moving_3_0 1 rfl rfl)
theorem dX11_lambda_moving_3_2 : decode cX11_lambda_moving_3 2 = .ok (.iload_n 1, 1) := dk_27 (dk_at dksX11_lambda_moving_3_0 2 rfl rfl)
theorem dX11_lambda_moving_3_3 : decode cX11_lambda_moving_3 3 = .ok (.ifCond .eq 8, 3) := dk_153 0 8 (dk_at dksX11_lambda_moving_3_0 3 rfl rfl)
theorem dX11_lambda_moving_3_6 : decode cX11_lambda_moving_3 6 = .ok (.iload_n 2, 1) := dk_28 (dk_at dksX11_lambda_moving_3_0 6 rfl rfl)
theorem dX11_lambda_moving_3_7 : decode cX11_lambda_moving_3 7 = .ok (.ineg, 1) := dk_116 (dk_at dksX11_lambda_moving_3_0 7 rfl rfl)
theorem dX11_lambda_moving_3_8 : decode cX11_lambda_moving_3 8 = .ok (.goto 4, 3) := dk_167 0 4 (dk_at dksX11_lambda_moving_3_0 8 rfl rfl)
theorem dX11_lambda_moving_3_11 : decode cX11_lambda_moving_3 11 = .ok (.iload_n 2, 1) := dk_28 (dk_at dksX11_lambda_moving_3_0 11 rfl rfl)
theorem dX11_lambda_moving_3_12 : decode cX11_lambda_moving_3 12 = .ok (.invokevirtual 230, 3) := dk_182 0 230 (dk_at dksX11_lambda_moving_3_0 12 rfl rfl)
theorem dX11_lambda_moving_3_15 : decode cX11_lambda_moving_3 15 = .ok (.ireturn, 1) := dk_172 (dk_at dksX11_lambda_moving_3_0 15 rfl rfl)
abbrev cX11_splitting : ByteArray := prog_6_method_14_code
def yX11_splitting : MethodName := ⟨RX11, "splitting", "()LBoxSpans$Command;"⟩
def dkwX11_splitting_1 : List UInt8 := [186, 0, 118, 0, 0, 183, 0, 106, 176]
abbrev dktX11_splitting_1 : List UInt8 := dkwX11_splitting_1 ++ []
def dkwX11_splitting_0 : List UInt8 := [42, 182, 0, 56, 60, 42, 182, 0, 56, 61, 187, 0, 99, 89, 27, 186, 0, 115, 0, 0, 27, 28]
abbrev dktX11_splitting_0 : List UInt8 := dkwX11_splitting_0 ++ dktX11_splitting_1
theorem dksX11_splitting_0 : cX11_splitting.data.toList.drop 0 = dktX11_splitting_0 := by decide +kernel
theorem dksX11_splitting_1 : cX11_splitting.data.toList.drop 22 = dktX11_splitting_1 := dk_seg dksX11_splitting_0 22 rfl rfl
theorem dX11_splitting_0 : decode cX11_splitting 0 = .ok (.aload_n 0, 1) := dk_42 (dk_at dksX11_splitting_0 0 rfl rfl)
theorem dX11_splitting_1 : decode cX11_splitting 1 = .ok (.invokevirtual 56, 3) := dk_182 0 56 (dk_at dksX11_splitting_0 1 rfl rfl)
theorem dX11_splitting_4 : decode cX11_splitting 4 = .ok (.istore_n 1, 1) := dk_60 (dk_at dksX11_splitting_0 4 rfl rfl)
theorem dX11_splitting_5 : decode cX11_splitting 5 = .ok (.aload_n 0, 1) := dk_42 (dk_at dksX11_splitting_0 5 rfl rfl)
theorem dX11_splitting_6 : decode cX11_splitting 6 = .ok (.invokevirtual 56, 3) := dk_182 0 56 (dk_at dksX11_splitting_0 6 rfl rfl)
theorem dX11_splitting_9 : decode cX11_splitting 9 = .ok (.istore_n 2, 1) := dk_61 (dk_at dksX11_splitting_0 9 rfl rfl)
theorem dX11_splitting_10 : decode cX11_splitting 10 = .ok (.new 99, 3) := dk_187 0 99 (dk_at dksX11_splitting_0 10 rfl rfl)
theorem dX11_splitting_13 : decode cX11_splitting 13 = .ok (.dup, 1) := dk_89 (dk_at dksX11_splitting_0 13 rfl rfl)
theorem dX11_splitting_14 : decode cX11_splitting 14 = .ok (.iload_n 1, 1) := dk_27 (dk_at dksX11_splitting_0 14 rfl rfl)
theorem dX11_splitting_15 : decode cX11_splitting 15 = .ok (.invokedynamic 115, 5) := by decide +kernel
theorem dX11_splitting_20 : decode cX11_splitting 20 = .ok (.iload_n 1, 1) := dk_27 (dk_at dksX11_splitting_0 20 rfl rfl)
theorem dX11_splitting_21 : decode cX11_splitting 21 = .ok (.iload_n 2, 1) := dk_28 (dk_at dksX11_splitting_0 21 rfl rfl)
theorem dX11_splitting_22 : decode cX11_splitting 22 = .ok (.invokedynamic 118, 5) := by decide +kernel
theorem dX11_splitting_27 : decode cX11_splitting 27 = .ok (.invokespecial 106, 3) := dk_183 0 106 (dk_at dksX11_splitting_1 5 rfl rfl)
theorem dX11_splitting_30 : decode cX11_splitting 30 = .ok (.areturn, 1) := dk_176 (dk_at dksX11_splitting_1 8 rfl rfl)
abbrev cX11_lambda_splitting_4 : ByteArray := prog_6_method_29_code
def yX11_lambda_splitting_4 : MethodName := ⟨RX11, "lambda$splitting$4", "(ILBoxSpans$Theatre;)I"⟩
def dkwX11_lambda_splitting_4_0 : List UInt8 := [26, 43, 182, 0, 206, 185, 0, 196, 1, 0, 162, 0, 7, 4, 167, 0, 4, 3, 184, 0, 199, 172]
abbrev dktX11_lambda_splitting_4_0 : List UInt8 := dkwX11_lambda_splitting_4_0 ++ []
theorem dksX11_lambda_splitting_4_0 : cX11_lambda_splitting_4.data.toList.drop 0 = dktX11_lambda_splitting_4_0 := by decide +kernel
theorem dX11_lambda_splitting_4_0 : decode cX11_lambda_splitting_4 0 = .ok (.iload_n 0, 1) := dk_26 (dk_at dksX11_lambda_splitting_4_0 0 rfl rfl)
theorem dX11_lambda_splitting_4_1 : decode cX11_lambda_splitting_4 1 = .ok (.aload_n 1, 1) := dk_43 (dk_at dksX11_lambda_splitting_4_0 1 rfl rfl)
theorem dX11_lambda_splitting_4_2 : decode cX11_lambda_splitting_4 2 = .ok (.invokevirtual 206, 3) := dk_182 0 206 (dk_at dksX11_lambda_splitting_4_0 2 rfl rfl)
theorem dX11_lambda_splitting_4_5 : decode cX11_lambda_splitting_4 5 = .ok (.invokeinterface 196 1, 5) := by decide +kernel
theorem dX11_lambda_splitting_4_10 : decode cX11_lambda_splitting_4 10 = .ok (.if_icmp .ge 7, 3) := dk_162 0 7 (dk_at dksX11_lambda_splitting_4_0 10 rfl rfl)
theorem dX11_lambda_splitting_4_13 : decode cX11_lambda_splitting_4 13 = .ok (.iconst 1, 1) := dk_4 (dk_at dksX11_lambda_splitting_4_0 13 rfl rfl)
theorem dX11_lambda_splitting_4_14 : decode cX11_lambda_splitting_4 14 = .ok (.goto 4, 3) := dk_167 0 4 (dk_at dksX11_lambda_splitting_4_0 14 rfl rfl)
theorem dX11_lambda_splitting_4_17 : decode cX11_lambda_splitting_4 17 = .ok (.iconst 0, 1) := dk_3 (dk_at dksX11_lambda_splitting_4_0 17 rfl rfl)
theorem dX11_lambda_splitting_4_18 : decode cX11_lambda_splitting_4 18 = .ok (.invokestatic 199, 3) := dk_184 0 199 (dk_at dksX11_lambda_splitting_4_0 18 rfl rfl)
theorem dX11_lambda_splitting_4_21 : decode cX11_lambda_splitting_4 21 = .ok (.ireturn, 1) := dk_172 (dk_at dksX11_lambda_splitting_4_0 21 rfl rfl)
abbrev cX11_lambda_splitting_5 : ByteArray := prog_6_method_28_code
def yX11_lambda_splitting_5 : MethodName := ⟨RX11, "lambda$splitting$5", "(IILBoxSpans$Theatre;)I"⟩
def dkwX11_lambda_splitting_5_0 : List UInt8 := [44, 26, 27, 182, 0, 226, 172]
abbrev dktX11_lambda_splitting_5_0 : List UInt8 := dkwX11_lambda_splitting_5_0 ++ []
theorem dksX11_lambda_splitting_5_0 : cX11_lambda_splitting_5.data.toList.drop 0 = dktX11_lambda_splitting_5_0 := by decide +kernel
theorem dX11_lambda_splitting_5_0 : decode cX11_lambda_splitting_5 0 = .ok (.aload_n 2, 1) := dk_44 (dk_at dksX11_lambda_splitting_5_0 0 rfl rfl)
theorem dX11_lambda_splitting_5_1 : decode cX11_lambda_splitting_5 1 = .ok (.iload_n 0, 1) := dk_26 (dk_at dksX11_lambda_splitting_5_0 1 rfl rfl)
theorem dX11_lambda_splitting_5_2 : decode cX11_lambda_splitting_5 2 = .ok (.iload_n 1, 1) := dk_27 (dk_at dksX11_lambda_splitting_5_0 2 rfl rfl)
theorem dX11_lambda_splitting_5_3 : decode cX11_lambda_splitting_5 3 = .ok (.invokevirtual 226, 3) := dk_182 0 226 (dk_at dksX11_lambda_splitting_5_0 3 rfl rfl)
theorem dX11_lambda_splitting_5_6 : decode cX11_lambda_splitting_5 6 = .ok (.ireturn, 1) := dk_172 (dk_at dksX11_lambda_splitting_5_0 6 rfl rfl)
abbrev cX11_wishing : ByteArray := prog_6_method_15_code
def yX11_wishing : MethodName := ⟨RX11, "wishing", "()LBoxSpans$Command;"⟩
def dkwX11_wishing_1 : List UInt8 := [186, 0, 122, 0, 0, 183, 0, 106, 176]
abbrev dktX11_wishing_1 : List UInt8 := dkwX11_wishing_1 ++ []
def dkwX11_wishing_0 : List UInt8 := [42, 182, 0, 92, 60, 42, 182, 0, 95, 77, 187, 0, 99, 89, 27, 44, 186, 0, 119, 0, 0, 27, 44]
abbrev dktX11_wishing_0 : List UInt8 := dkwX11_wishing_0 ++ dktX11_wishing_1
theorem dksX11_wishing_0 : cX11_wishing.data.toList.drop 0 = dktX11_wishing_0 := by decide +kernel
theorem dksX11_wishing_1 : cX11_wishing.data.toList.drop 23 = dktX11_wishing_1 := dk_seg dksX11_wishing_0 23 rfl rfl
theorem dX11_wishing_0 : decode cX11_wishing 0 = .ok (.aload_n 0, 1) := dk_42 (dk_at dksX11_wishing_0 0 rfl rfl)
theorem dX11_wishing_1 : decode cX11_wishing 1 = .ok (.invokevirtual 92, 3) := dk_182 0 92 (dk_at dksX11_wishing_0 1 rfl rfl)
theorem dX11_wishing_4 : decode cX11_wishing 4 = .ok (.istore_n 1, 1) := dk_60 (dk_at dksX11_wishing_0 4 rfl rfl)
theorem dX11_wishing_5 : decode cX11_wishing 5 = .ok (.aload_n 0, 1) := dk_42 (dk_at dksX11_wishing_0 5 rfl rfl)
theorem dX11_wishing_6 : decode cX11_wishing 6 = .ok (.invokevirtual 95, 3) := dk_182 0 95 (dk_at dksX11_wishing_0 6 rfl rfl)
theorem dX11_wishing_9 : decode cX11_wishing 9 = .ok (.astore_n 2, 1) := dk_77 (dk_at dksX11_wishing_0 9 rfl rfl)
theorem dX11_wishing_10 : decode cX11_wishing 10 = .ok (.new 99, 3) := dk_187 0 99 (dk_at dksX11_wishing_0 10 rfl rfl)
theorem dX11_wishing_13 : decode cX11_wishing 13 = .ok (.dup, 1) := dk_89 (dk_at dksX11_wishing_0 13 rfl rfl)
theorem dX11_wishing_14 : decode cX11_wishing 14 = .ok (.iload_n 1, 1) := dk_27 (dk_at dksX11_wishing_0 14 rfl rfl)
theorem dX11_wishing_15 : decode cX11_wishing 15 = .ok (.aload_n 2, 1) := dk_44 (dk_at dksX11_wishing_0 15 rfl rfl)
theorem dX11_wishing_16 : decode cX11_wishing 16 = .ok (.invokedynamic 119, 5) := by decide +kernel
theorem dX11_wishing_21 : decode cX11_wishing 21 = .ok (.iload_n 1, 1) := dk_27 (dk_at dksX11_wishing_0 21 rfl rfl)
theorem dX11_wishing_22 : decode cX11_wishing 22 = .ok (.aload_n 2, 1) := dk_44 (dk_at dksX11_wishing_0 22 rfl rfl)
theorem dX11_wishing_23 : decode cX11_wishing 23 = .ok (.invokedynamic 122, 5) := by decide +kernel
theorem dX11_wishing_28 : decode cX11_wishing 28 = .ok (.invokespecial 106, 3) := dk_183 0 106 (dk_at dksX11_wishing_1 5 rfl rfl)
theorem dX11_wishing_31 : decode cX11_wishing 31 = .ok (.areturn, 1) := dk_176 (dk_at dksX11_wishing_1 8 rfl rfl)
abbrev cX11_lambda_wishing_6 : ByteArray := prog_6_method_27_code
def yX11_lambda_wishing_6 : MethodName := ⟨RX11, "lambda$wishing$6", "(ILBoxSpans$Span;LBoxSpans$Theatre;)I"⟩
def dkwX11_lambda_wishing_6_1 : List UInt8 := [4, 167, 0, 4, 3, 184, 0, 199, 172]
abbrev dktX11_lambda_wishing_6_1 : List UInt8 := dkwX11_lambda_wishing_6_1 ++ []
def dkwX11_lambda_wishing_6_0 : List UInt8 := [26, 4, 16, 8, 184, 0, 212, 153, 0, 21, 43, 182, 0, 216, 43, 182, 0, 219, 184, 0, 222, 153, 0, 7]
abbrev dktX11_lambda_wishing_6_0 : List UInt8 := dkwX11_lambda_wishing_6_0 ++ dktX11_lambda_wishing_6_1
theorem dksX11_lambda_wishing_6_0 : cX11_lambda_wishing_6.data.toList.drop 0 = dktX11_lambda_wishing_6_0 := by decide +kernel
theorem dksX11_lambda_wishing_6_1 : cX11_lambda_wishing_6.data.toList.drop 24 = dktX11_lambda_wishing_6_1 := dk_seg dksX11_lambda_wishing_6_0 24 rfl rfl
theorem dX11_lambda_wishing_6_0 : decode cX11_lambda_wishing_6 0 = .ok (.iload_n 0, 1) := dk_26 (dk_at dksX11_lambda_wishing_6_0 0 rfl rfl)
theorem dX11_lambda_wishing_6_1 : decode cX11_lambda_wishing_6 1 = .ok (.iconst 1, 1) := dk_4 (dk_at dksX11_lambda_wishing_6_0 1 rfl rfl)
theorem dX11_lambda_wishing_6_2 : decode cX11_lambda_wishing_6 2 = .ok (.bipush 8, 2) := dk_16 8 (dk_at dksX11_lambda_wishing_6_0 2 rfl rfl)
theorem dX11_lambda_wishing_6_4 : decode cX11_lambda_wishing_6 4 = .ok (.invokestatic 212, 3) := dk_184 0 212 (dk_at dksX11_lambda_wishing_6_0 4 rfl rfl)
theorem dX11_lambda_wishing_6_7 : decode cX11_lambda_wishing_6 7 = .ok (.ifCond .eq 21, 3) := dk_153 0 21 (dk_at dksX11_lambda_wishing_6_0 7 rfl rfl)
theorem dX11_lambda_wishing_6_10 : decode cX11_lambda_wishing_6 10 = .ok (.aload_n 1, 1) := dk_43 (dk_at dksX11_lambda_wishing_6_0 10 rfl rfl)
theorem dX11_lambda_wishing_6_11 : decode cX11_lambda_wishing_6 11 = .ok (.invokevirtual 216, 3) := dk_182 0 216 (dk_at dksX11_lambda_wishing_6_0 11 rfl rfl)
theorem dX11_lambda_wishing_6_14 : decode cX11_lambda_wishing_6 14 = .ok (.aload_n 1, 1) := dk_43 (dk_at dksX11_lambda_wishing_6_0 14 rfl rfl)
theorem dX11_lambda_wishing_6_15 : decode cX11_lambda_wishing_6 15 = .ok (.invokevirtual 219, 3) := dk_182 0 219 (dk_at dksX11_lambda_wishing_6_0 15 rfl rfl)
theorem dX11_lambda_wishing_6_18 : decode cX11_lambda_wishing_6 18 = .ok (.invokestatic 222, 3) := dk_184 0 222 (dk_at dksX11_lambda_wishing_6_0 18 rfl rfl)
theorem dX11_lambda_wishing_6_21 : decode cX11_lambda_wishing_6 21 = .ok (.ifCond .eq 7, 3) := dk_153 0 7 (dk_at dksX11_lambda_wishing_6_0 21 rfl rfl)
theorem dX11_lambda_wishing_6_24 : decode cX11_lambda_wishing_6 24 = .ok (.iconst 1, 1) := dk_4 (dk_at dksX11_lambda_wishing_6_1 0 rfl rfl)
theorem dX11_lambda_wishing_6_25 : decode cX11_lambda_wishing_6 25 = .ok (.goto 4, 3) := dk_167 0 4 (dk_at dksX11_lambda_wishing_6_1 1 rfl rfl)
theorem dX11_lambda_wishing_6_28 : decode cX11_lambda_wishing_6 28 = .ok (.iconst 0, 1) := dk_3 (dk_at dksX11_lambda_wishing_6_1 4 rfl rfl)
theorem dX11_lambda_wishing_6_29 : decode cX11_lambda_wishing_6 29 = .ok (.invokestatic 199, 3) := dk_184 0 199 (dk_at dksX11_lambda_wishing_6_1 5 rfl rfl)
theorem dX11_lambda_wishing_6_32 : decode cX11_lambda_wishing_6 32 = .ok (.ireturn, 1) := dk_172 (dk_at dksX11_lambda_wishing_6_1 8 rfl rfl)
abbrev cX11_lambda_wishing_7 : ByteArray := prog_6_method_26_code
def yX11_lambda_wishing_7 : MethodName := ⟨RX11, "lambda$wishing$7", "(ILBoxSpans$Span;LBoxSpans$Theatre;)I"⟩
def dkwX11_lambda_wishing_7_0 : List UInt8 := [44, 26, 43, 182, 0, 209, 172]
abbrev dktX11_lambda_wishing_7_0 : List UInt8 := dkwX11_lambda_wishing_7_0 ++ []
theorem dksX11_lambda_wishing_7_0 : cX11_lambda_wishing_7.data.toList.drop 0 = dktX11_lambda_wishing_7_0 := by decide +kernel
theorem dX11_lambda_wishing_7_0 : decode cX11_lambda_wishing_7 0 = .ok (.aload_n 2, 1) := dk_44 (dk_at dksX11_lambda_wishing_7_0 0 rfl rfl)
theorem dX11_lambda_wishing_7_1 : decode cX11_lambda_wishing_7 1 = .ok (.iload_n 0, 1) := dk_26 (dk_at dksX11_lambda_wishing_7_0 1 rfl rfl)
theorem dX11_lambda_wishing_7_2 : decode cX11_lambda_wishing_7 2 = .ok (.aload_n 1, 1) := dk_43 (dk_at dksX11_lambda_wishing_7_0 2 rfl rfl)
theorem dX11_lambda_wishing_7_3 : decode cX11_lambda_wishing_7 3 = .ok (.invokevirtual 209, 3) := dk_182 0 209 (dk_at dksX11_lambda_wishing_7_0 3 rfl rfl)
theorem dX11_lambda_wishing_7_6 : decode cX11_lambda_wishing_7 6 = .ok (.ireturn, 1) := dk_172 (dk_at dksX11_lambda_wishing_7_0 6 rfl rfl)
abbrev cX11_dropping : ByteArray := prog_6_method_17_code
def yX11_dropping : MethodName := ⟨RX11, "dropping", "()LBoxSpans$Command;"⟩
def dkwX11_dropping_1 : List UInt8 := [176]
abbrev dktX11_dropping_1 : List UInt8 := dkwX11_dropping_1 ++ []
def dkwX11_dropping_0 : List UInt8 := [42, 182, 0, 56, 60, 187, 0, 99, 89, 27, 186, 0, 125, 0, 0, 27, 186, 0, 126, 0, 0, 183, 0, 106]
abbrev dktX11_dropping_0 : List UInt8 := dkwX11_dropping_0 ++ dktX11_dropping_1
theorem dksX11_dropping_0 : cX11_dropping.data.toList.drop 0 = dktX11_dropping_0 := by decide +kernel
theorem dksX11_dropping_1 : cX11_dropping.data.toList.drop 24 = dktX11_dropping_1 := dk_seg dksX11_dropping_0 24 rfl rfl
theorem dX11_dropping_0 : decode cX11_dropping 0 = .ok (.aload_n 0, 1) := dk_42 (dk_at dksX11_dropping_0 0 rfl rfl)
theorem dX11_dropping_1 : decode cX11_dropping 1 = .ok (.invokevirtual 56, 3) := dk_182 0 56 (dk_at dksX11_dropping_0 1 rfl rfl)
theorem dX11_dropping_4 : decode cX11_dropping 4 = .ok (.istore_n 1, 1) := dk_60 (dk_at dksX11_dropping_0 4 rfl rfl)
theorem dX11_dropping_5 : decode cX11_dropping 5 = .ok (.new 99, 3) := dk_187 0 99 (dk_at dksX11_dropping_0 5 rfl rfl)
theorem dX11_dropping_8 : decode cX11_dropping 8 = .ok (.dup, 1) := dk_89 (dk_at dksX11_dropping_0 8 rfl rfl)
theorem dX11_dropping_9 : decode cX11_dropping 9 = .ok (.iload_n 1, 1) := dk_27 (dk_at dksX11_dropping_0 9 rfl rfl)
theorem dX11_dropping_10 : decode cX11_dropping 10 = .ok (.invokedynamic 125, 5) := by decide +kernel
theorem dX11_dropping_15 : decode cX11_dropping 15 = .ok (.iload_n 1, 1) := dk_27 (dk_at dksX11_dropping_0 15 rfl rfl)
theorem dX11_dropping_16 : decode cX11_dropping 16 = .ok (.invokedynamic 126, 5) := by decide +kernel
theorem dX11_dropping_21 : decode cX11_dropping 21 = .ok (.invokespecial 106, 3) := dk_183 0 106 (dk_at dksX11_dropping_0 21 rfl rfl)
theorem dX11_dropping_24 : decode cX11_dropping 24 = .ok (.areturn, 1) := dk_176 (dk_at dksX11_dropping_1 0 rfl rfl)
abbrev cX11_lambda_dropping_10 : ByteArray := prog_6_method_23_code
def yX11_lambda_dropping_10 : MethodName := ⟨RX11, "lambda$dropping$10", "(ILBoxSpans$Theatre;)I"⟩
def dkwX11_lambda_dropping_10_0 : List UInt8 := [26, 43, 182, 0, 192, 185, 0, 196, 1, 0, 162, 0, 7, 4, 167, 0, 4, 3, 184, 0, 199, 172]
abbrev dktX11_lambda_dropping_10_0 : List UInt8 := dkwX11_lambda_dropping_10_0 ++ []
theorem dksX11_lambda_dropping_10_0 : cX11_lambda_dropping_10.data.toList.drop 0 = dktX11_lambda_dropping_10_0 := by decide +kernel
theorem dX11_lambda_dropping_10_0 : decode cX11_lambda_dropping_10 0 = .ok (.iload_n 0, 1) := dk_26 (dk_at dksX11_lambda_dropping_10_0 0 rfl rfl)
theorem dX11_lambda_dropping_10_1 : decode cX11_lambda_dropping_10 1 = .ok (.aload_n 1, 1) := dk_43 (dk_at dksX11_lambda_dropping_10_0 1 rfl rfl)
theorem dX11_lambda_dropping_10_2 : decode cX11_lambda_dropping_10 2 = .ok (.invokevirtual 192, 3) := dk_182 0 192 (dk_at dksX11_lambda_dropping_10_0 2 rfl rfl)
theorem dX11_lambda_dropping_10_5 : decode cX11_lambda_dropping_10 5 = .ok (.invokeinterface 196 1, 5) := by decide +kernel
theorem dX11_lambda_dropping_10_10 : decode cX11_lambda_dropping_10 10 = .ok (.if_icmp .ge 7, 3) := dk_162 0 7 (dk_at dksX11_lambda_dropping_10_0 10 rfl rfl)
theorem dX11_lambda_dropping_10_13 : decode cX11_lambda_dropping_10 13 = .ok (.iconst 1, 1) := dk_4 (dk_at dksX11_lambda_dropping_10_0 13 rfl rfl)
theorem dX11_lambda_dropping_10_14 : decode cX11_lambda_dropping_10 14 = .ok (.goto 4, 3) := dk_167 0 4 (dk_at dksX11_lambda_dropping_10_0 14 rfl rfl)
theorem dX11_lambda_dropping_10_17 : decode cX11_lambda_dropping_10 17 = .ok (.iconst 0, 1) := dk_3 (dk_at dksX11_lambda_dropping_10_0 17 rfl rfl)
theorem dX11_lambda_dropping_10_18 : decode cX11_lambda_dropping_10 18 = .ok (.invokestatic 199, 3) := dk_184 0 199 (dk_at dksX11_lambda_dropping_10_0 18 rfl rfl)
theorem dX11_lambda_dropping_10_21 : decode cX11_lambda_dropping_10 21 = .ok (.ireturn, 1) := dk_172 (dk_at dksX11_lambda_dropping_10_0 21 rfl rfl)
abbrev cX11_lambda_dropping_11 : ByteArray := prog_6_method_22_code
def yX11_lambda_dropping_11 : MethodName := ⟨RX11, "lambda$dropping$11", "(ILBoxSpans$Theatre;)I"⟩
def dkwX11_lambda_dropping_11_0 : List UInt8 := [43, 26, 182, 0, 188, 172]
abbrev dktX11_lambda_dropping_11_0 : List UInt8 := dkwX11_lambda_dropping_11_0 ++ []
theorem dksX11_lambda_dropping_11_0 : cX11_lambda_dropping_11.data.toList.drop 0 = dktX11_lambda_dropping_11_0 := by decide +kernel
theorem dX11_lambda_dropping_11_0 : decode cX11_lambda_dropping_11 0 = .ok (.aload_n 1, 1) := dk_43 (dk_at dksX11_lambda_dropping_11_0 0 rfl rfl)
theorem dX11_lambda_dropping_11_1 : decode cX11_lambda_dropping_11 1 = .ok (.iload_n 0, 1) := dk_26 (dk_at dksX11_lambda_dropping_11_0 1 rfl rfl)
theorem dX11_lambda_dropping_11_2 : decode cX11_lambda_dropping_11 2 = .ok (.invokevirtual 188, 3) := dk_182 0 188 (dk_at dksX11_lambda_dropping_11_0 2 rfl rfl)
theorem dX11_lambda_dropping_11_5 : decode cX11_lambda_dropping_11 5 = .ok (.ireturn, 1) := dk_172 (dk_at dksX11_lambda_dropping_11_0 5 rfl rfl)
abbrev cX11_lambda_command_12 : ByteArray := prog_6_method_21_code
def yX11_lambda_command_12 : MethodName := ⟨RX11, "lambda$command$12", "(LBoxSpans$Theatre;)I"⟩
theorem dX11_lambda_command_12_0 : decode cX11_lambda_command_12 0 = .ok (.iconst 1, 1) := by decide +kernel
theorem dX11_lambda_command_12_1 : decode cX11_lambda_command_12 1 = .ok (.ireturn, 1) := by decide +kernel
abbrev cX11_lambda_command_13 : ByteArray := prog_6_method_20_code
def yX11_lambda_command_13 : MethodName := ⟨RX11, "lambda$command$13", "(LBoxSpans$Theatre;)I"⟩
theorem dX11_lambda_command_13_0 : decode cX11_lambda_command_13 0 = .ok (.aload_n 0, 1) := by decide +kernel
theorem dX11_lambda_command_13_1 : decode cX11_lambda_command_13 1 = .ok (.invokevirtual 183, 3) := by decide +kernel
theorem dX11_lambda_command_13_4 : decode cX11_lambda_command_13 4 = .ok (.ireturn, 1) := by decide +kernel
theorem q145 : (Jvm.Cond.initialized "BoxSpans$Reader") ∈ lw_all := lw_g (lw_at lw_m1 45 rfl) rfl
theorem q904 : (Jvm.Cond.selects "BoxSpans$Reader" ({ cls := "java/lang/Object", name := "getClass", desc := "()Ljava/lang/Class;" } : Jvm.MethodName) ({ cls := "java/lang/Object", name := "getClass", desc := "()Ljava/lang/Class;" } : Jvm.MethodName)) ∈ lw_all := lw_g (lw_at lw_m4 84 rfl) rfl
theorem q1973 : (Jvm.Cond.instantiable "BoxSpans$Reader" (2 : Nat)) ∈ lw_all := lw_g (lw_at lw_m8 193 rfl) rfl
theorem q1975 : (Jvm.Cond.instanceMethod ({ cls := "BoxSpans$Reader", name := "<init>", desc := "(Ljava/lang/CharSequence;)V" } : Jvm.MethodName)) ∈ lw_all := lw_g (lw_at lw_m8 195 rfl) rfl
theorem q1976 : (Jvm.Cond.code ({ cls := "BoxSpans$Reader", name := "<init>", desc := "(Ljava/lang/CharSequence;)V" } : Jvm.MethodName) prog_6_method_1_code (2 : Nat) (Option.none : Option Jvm.ClassFile.FieldType)) ∈ lw_all := lw_g (lw_at lw_m8 196 rfl) rfl
theorem q1977 : (Jvm.Cond.methodLink "BoxSpans$Reader" (3 : Nat) ({ cls := "java/lang/Object", name := "<init>", desc := "()V" } : Jvm.MethodName)) ∈ lw_all := lw_g (lw_at lw_m8 197 rfl) rfl
theorem q1978 : (Jvm.Cond.fieldLink "BoxSpans$Reader" (9 : Nat) "BoxSpans$Reader" "text" "Ljava/lang/CharSequence;") ∈ lw_all := lw_g (lw_at lw_m8 198 rfl) rfl
theorem q1979 : (Jvm.Cond.fieldLink "BoxSpans$Reader" (15 : Nat) "BoxSpans$Reader" "at" "I") ∈ lw_all := lw_g (lw_at lw_m8 199 rfl) rfl
theorem q1980 : (Jvm.Cond.laysFinal "BoxSpans$Reader" "BoxSpans$Reader" "text" "Ljava/lang/CharSequence;") ∈ lw_all := lw_g (lw_at lw_m8 200 rfl) rfl
theorem q1981 : (Jvm.Cond.soleField "BoxSpans$Reader" "text") ∈ lw_all := lw_g (lw_at lw_m8 201 rfl) rfl
theorem q1982 : (Jvm.Cond.lays "BoxSpans$Reader" "BoxSpans$Reader" "at" "I") ∈ lw_all := lw_g (lw_at lw_m8 202 rfl) rfl
theorem q1983 : (Jvm.Cond.soleField "BoxSpans$Reader" "at") ∈ lw_all := lw_g (lw_at lw_m8 203 rfl) rfl
theorem q1984 : (Jvm.Cond.superclass "BoxSpans$Reader" "java/lang/Object") ∈ lw_all := lw_g (lw_at lw_m8 204 rfl) rfl
theorem q1986 : (Jvm.Cond.instanceMethod ({ cls := "BoxSpans$Reader", name := "commands", desc := "()Ljava/util/List;" } : Jvm.MethodName)) ∈ lw_all := lw_g (lw_at lw_m8 206 rfl) rfl
theorem q1987 : (Jvm.Cond.selects "BoxSpans$Reader" ({ cls := "BoxSpans$Reader", name := "commands", desc := "()Ljava/util/List;" } : Jvm.MethodName) ({ cls := "BoxSpans$Reader", name := "commands", desc := "()Ljava/util/List;" } : Jvm.MethodName)) ∈ lw_all := lw_g (lw_at lw_m8 207 rfl) rfl
theorem q1988 : (Jvm.Cond.code ({ cls := "BoxSpans$Reader", name := "commands", desc := "()Ljava/util/List;" } : Jvm.MethodName) prog_6_method_19_code (2 : Nat) (Option.some (Jvm.ClassFile.FieldType.object "java/util/List"))) ∈ lw_all := lw_g (lw_at lw_m8 208 rfl) rfl
theorem q1989 : (Jvm.Cond.classLink "BoxSpans$Reader" (172 : Nat) "java/util/ArrayList") ∈ lw_all := lw_g (lw_at lw_m8 209 rfl) rfl
theorem q1990 : (Jvm.Cond.methodLink "BoxSpans$Reader" (174 : Nat) ({ cls := "java/util/ArrayList", name := "<init>", desc := "()V" } : Jvm.MethodName)) ∈ lw_all := lw_g (lw_at lw_m8 210 rfl) rfl
theorem q1991 : (Jvm.Cond.methodLink "BoxSpans$Reader" (175 : Nat) ({ cls := "BoxSpans$Reader", name := "command", desc := "()LBoxSpans$Command;" } : Jvm.MethodName)) ∈ lw_all := lw_g (lw_at lw_m8 211 rfl) rfl
theorem q1992 : (Jvm.Cond.privateMethod ({ cls := "BoxSpans$Reader", name := "command", desc := "()LBoxSpans$Command;" } : Jvm.MethodName)) ∈ lw_tbl := lw_at lw_m8 212 rfl
theorem q1993 : (Jvm.Cond.instanceMethod ({ cls := "BoxSpans$Reader", name := "command", desc := "()LBoxSpans$Command;" } : Jvm.MethodName)) ∈ lw_all := lw_g (lw_at lw_m8 213 rfl) rfl
theorem q1994 : (Jvm.Cond.code ({ cls := "BoxSpans$Reader", name := "command", desc := "()LBoxSpans$Command;" } : Jvm.MethodName) prog_6_method_18_code (3 : Nat) (Option.some (Jvm.ClassFile.FieldType.object "BoxSpans$Command"))) ∈ lw_all := lw_g (lw_at lw_m8 214 rfl) rfl
theorem q1995 : (Jvm.Cond.methodLink "BoxSpans$Reader" (127 : Nat) ({ cls := "BoxSpans$Reader", name := "word", desc := "()Ljava/lang/String;" } : Jvm.MethodName)) ∈ lw_all := lw_g (lw_at lw_m8 215 rfl) rfl
theorem q1996 : (Jvm.Cond.privateMethod ({ cls := "BoxSpans$Reader", name := "word", desc := "()Ljava/lang/String;" } : Jvm.MethodName)) ∈ lw_tbl := lw_at lw_m8 216 rfl
theorem q1997 : (Jvm.Cond.instanceMethod ({ cls := "BoxSpans$Reader", name := "word", desc := "()Ljava/lang/String;" } : Jvm.MethodName)) ∈ lw_all := lw_g (lw_at lw_m8 217 rfl) rfl
theorem q1998 : (Jvm.Cond.code ({ cls := "BoxSpans$Reader", name := "word", desc := "()Ljava/lang/String;" } : Jvm.MethodName) prog_6_method_11_code (2 : Nat) (Option.some (Jvm.ClassFile.FieldType.object "java/lang/String"))) ∈ lw_all := lw_g (lw_at lw_m8 218 rfl) rfl
theorem q1999 : (Jvm.Cond.classLink "BoxSpans$Reader" (64 : Nat) "java/lang/StringBuilder") ∈ lw_all := lw_g (lw_at lw_m8 219 rfl) rfl
theorem q2000 : (Jvm.Cond.methodLink "BoxSpans$Reader" (66 : Nat) ({ cls := "java/lang/StringBuilder", name := "<init>", desc := "()V" } : Jvm.MethodName)) ∈ lw_all := lw_g (lw_at lw_m8 220 rfl) rfl
theorem q2001 : (Jvm.Cond.methodLink "BoxSpans$Reader" (34 : Nat) ({ cls := "BoxSpans$Reader", name := "here", desc := "()C" } : Jvm.MethodName)) ∈ lw_all := lw_g (lw_at lw_m8 221 rfl) rfl
theorem q2002 : (Jvm.Cond.privateMethod ({ cls := "BoxSpans$Reader", name := "here", desc := "()C" } : Jvm.MethodName)) ∈ lw_tbl := lw_at lw_m8 222 rfl
theorem q2003 : (Jvm.Cond.instanceMethod ({ cls := "BoxSpans$Reader", name := "here", desc := "()C" } : Jvm.MethodName)) ∈ lw_all := lw_g (lw_at lw_m8 223 rfl) rfl
theorem q2004 : (Jvm.Cond.code ({ cls := "BoxSpans$Reader", name := "here", desc := "()C" } : Jvm.MethodName) prog_6_method_2_code (1 : Nat) (Option.some Jvm.ClassFile.FieldType.char)) ∈ lw_all := lw_g (lw_at lw_m8 224 rfl) rfl
theorem q2005 : (Jvm.Cond.interfaceEntry "BoxSpans$Reader" (19 : Nat)) ∈ lw_tbl := lw_at lw_m8 225 rfl
theorem q2006 : (Jvm.Cond.methodLink "BoxSpans$Reader" (19 : Nat) ({ cls := "java/lang/CharSequence", name := "length", desc := "()I" } : Jvm.MethodName)) ∈ lw_all := lw_g (lw_at lw_m8 226 rfl) rfl
theorem q2017 : (Jvm.Cond.interfaceEntry "BoxSpans$Reader" (25 : Nat)) ∈ lw_tbl := lw_at lw_m8 237 rfl
theorem q2018 : (Jvm.Cond.methodLink "BoxSpans$Reader" (25 : Nat) ({ cls := "java/lang/CharSequence", name := "charAt", desc := "(I)C" } : Jvm.MethodName)) ∈ lw_all := lw_g (lw_at lw_m8 238 rfl) rfl
theorem q2048 : (Jvm.Cond.stringRef "BoxSpans$Reader" (67 : Nat) " let cancel move split wish drop allot ") ∈ lw_tbl := lw_at lw_m9 28 rfl
theorem q2049 : (Jvm.Cond.stringRef "BoxSpans$Reader" (69 : Nat) " ") ∈ lw_tbl := lw_at lw_m9 29 rfl
theorem q2050 : (Jvm.Cond.methodLink "BoxSpans$Reader" (71 : Nat) ({ cls := "java/lang/StringBuilder", name := "append", desc := "(Ljava/lang/String;)Ljava/lang/StringBuilder;" } : Jvm.MethodName)) ∈ lw_all := lw_g (lw_at lw_m9 30 rfl) rfl
theorem q2051 : (Jvm.Cond.methodLink "BoxSpans$Reader" (75 : Nat) ({ cls := "java/lang/StringBuilder", name := "append", desc := "(Ljava/lang/Object;)Ljava/lang/StringBuilder;" } : Jvm.MethodName)) ∈ lw_all := lw_g (lw_at lw_m9 31 rfl) rfl
theorem q2066 : (Jvm.Cond.selects "BoxSpans$Reader" ({ cls := "java/lang/Object", name := "toString", desc := "()Ljava/lang/String;" } : Jvm.MethodName) ({ cls := "java/lang/Object", name := "toString", desc := "()Ljava/lang/String;" } : Jvm.MethodName)) ∈ lw_all := lw_g (lw_at lw_m9 46 rfl) rfl
theorem q2102 : (Jvm.Cond.methodLink "BoxSpans$Reader" (78 : Nat) ({ cls := "java/lang/StringBuilder", name := "append", desc := "(C)Ljava/lang/StringBuilder;" } : Jvm.MethodName)) ∈ lw_all := lw_g (lw_at lw_m9 82 rfl) rfl
theorem q2103 : (Jvm.Cond.methodLink "BoxSpans$Reader" (81 : Nat) ({ cls := "java/lang/StringBuilder", name := "toString", desc := "()Ljava/lang/String;" } : Jvm.MethodName)) ∈ lw_all := lw_g (lw_at lw_m9 83 rfl) rfl
theorem q2104 : (Jvm.Cond.methodLink "BoxSpans$Reader" (85 : Nat) ({ cls := "java/lang/String", name := "contains", desc := "(Ljava/lang/CharSequence;)Z" } : Jvm.MethodName)) ∈ lw_all := lw_g (lw_at lw_m9 84 rfl) rfl
theorem q2140 : (Jvm.Cond.methodLink "BoxSpans$Reader" (38 : Nat) ({ cls := "BoxSpans$Reader", name := "need", desc := "(Z)V" } : Jvm.MethodName)) ∈ lw_all := lw_g (lw_at lw_m9 120 rfl) rfl
theorem q2141 : (Jvm.Cond.privateMethod ({ cls := "BoxSpans$Reader", name := "need", desc := "(Z)V" } : Jvm.MethodName)) ∈ lw_tbl := lw_at lw_m9 121 rfl
theorem q2142 : (Jvm.Cond.instanceMethod ({ cls := "BoxSpans$Reader", name := "need", desc := "(Z)V" } : Jvm.MethodName)) ∈ lw_all := lw_g (lw_at lw_m9 122 rfl) rfl
theorem q2143 : (Jvm.Cond.code ({ cls := "BoxSpans$Reader", name := "need", desc := "(Z)V" } : Jvm.MethodName) prog_6_method_3_code (2 : Nat) (Option.none : Option Jvm.ClassFile.FieldType)) ∈ lw_all := lw_g (lw_at lw_m9 123 rfl) rfl
theorem q2144 : (Jvm.Cond.classLink "BoxSpans$Reader" (29 : Nat) "BoxSpans$TextError") ∈ lw_all := lw_g (lw_at lw_m9 124 rfl) rfl
theorem q2153 : (Jvm.Cond.methodLink "BoxSpans$Reader" (31 : Nat) ({ cls := "BoxSpans$TextError", name := "<init>", desc := "(I)V" } : Jvm.MethodName)) ∈ lw_all := lw_g (lw_at lw_m9 133 rfl) rfl
theorem q2162 : (Jvm.Cond.methodLink "BoxSpans$Reader" (91 : Nat) ({ cls := "java/lang/StringBuilder", name := "length", desc := "()I" } : Jvm.MethodName)) ∈ lw_all := lw_g (lw_at lw_m9 142 rfl) rfl
theorem q2163 : (Jvm.Cond.methodLink "BoxSpans$Reader" (130 : Nat) ({ cls := "java/lang/String", name := "hashCode", desc := "()I" } : Jvm.MethodName)) ∈ lw_all := lw_g (lw_at lw_m9 143 rfl) rfl
theorem q2220 : (Jvm.Cond.stringRef "BoxSpans$Reader" (133 : Nat) "let") ∈ lw_tbl := lw_at lw_m9 200 rfl
theorem q2221 : (Jvm.Cond.methodLink "BoxSpans$Reader" (135 : Nat) ({ cls := "java/lang/String", name := "equals", desc := "(Ljava/lang/Object;)Z" } : Jvm.MethodName)) ∈ lw_all := lw_g (lw_at lw_m9 201 rfl) rfl
theorem q2229 : (Jvm.Cond.stringRef "BoxSpans$Reader" (139 : Nat) "cancel") ∈ lw_tbl := lw_at lw_m9 209 rfl
theorem q2230 : (Jvm.Cond.stringRef "BoxSpans$Reader" (141 : Nat) "move") ∈ lw_tbl := lw_at lw_m9 210 rfl
theorem q2231 : (Jvm.Cond.stringRef "BoxSpans$Reader" (143 : Nat) "split") ∈ lw_tbl := lw_at lw_m9 211 rfl
theorem q2232 : (Jvm.Cond.stringRef "BoxSpans$Reader" (145 : Nat) "wish") ∈ lw_tbl := lw_at lw_m9 212 rfl
theorem q2233 : (Jvm.Cond.stringRef "BoxSpans$Reader" (147 : Nat) "drop") ∈ lw_tbl := lw_at lw_m9 213 rfl
theorem q2234 : (Jvm.Cond.methodLink "BoxSpans$Reader" (149 : Nat) ({ cls := "BoxSpans$Reader", name := "letting", desc := "()LBoxSpans$Command;" } : Jvm.MethodName)) ∈ lw_all := lw_g (lw_at lw_m9 214 rfl) rfl
theorem q2235 : (Jvm.Cond.privateMethod ({ cls := "BoxSpans$Reader", name := "letting", desc := "()LBoxSpans$Command;" } : Jvm.MethodName)) ∈ lw_tbl := lw_at lw_m9 215 rfl
theorem q2236 : (Jvm.Cond.instanceMethod ({ cls := "BoxSpans$Reader", name := "letting", desc := "()LBoxSpans$Command;" } : Jvm.MethodName)) ∈ lw_all := lw_g (lw_at lw_m9 216 rfl) rfl
theorem q2237 : (Jvm.Cond.code ({ cls := "BoxSpans$Reader", name := "letting", desc := "()LBoxSpans$Command;" } : Jvm.MethodName) prog_6_method_12_code (4 : Nat) (Option.some (Jvm.ClassFile.FieldType.object "BoxSpans$Command"))) ∈ lw_all := lw_g (lw_at lw_m9 217 rfl) rfl
theorem q2238 : (Jvm.Cond.methodLink "BoxSpans$Reader" (92 : Nat) ({ cls := "BoxSpans$Reader", name := "digitBehind", desc := "()I" } : Jvm.MethodName)) ∈ lw_all := lw_g (lw_at lw_m9 218 rfl) rfl
theorem q2239 : (Jvm.Cond.privateMethod ({ cls := "BoxSpans$Reader", name := "digitBehind", desc := "()I" } : Jvm.MethodName)) ∈ lw_tbl := lw_at lw_m9 219 rfl
theorem q2240 : (Jvm.Cond.instanceMethod ({ cls := "BoxSpans$Reader", name := "digitBehind", desc := "()I" } : Jvm.MethodName)) ∈ lw_all := lw_g (lw_at lw_m9 220 rfl) rfl
theorem q2241 : (Jvm.Cond.code ({ cls := "BoxSpans$Reader", name := "digitBehind", desc := "()I" } : Jvm.MethodName) prog_6_method_9_code (1 : Nat) (Option.some Jvm.ClassFile.FieldType.int)) ∈ lw_all := lw_g (lw_at lw_m9 221 rfl) rfl
theorem q2242 : (Jvm.Cond.methodLink "BoxSpans$Reader" (49 : Nat) ({ cls := "BoxSpans$Reader", name := "take", desc := "(C)V" } : Jvm.MethodName)) ∈ lw_all := lw_g (lw_at lw_m9 222 rfl) rfl
theorem q2243 : (Jvm.Cond.privateMethod ({ cls := "BoxSpans$Reader", name := "take", desc := "(C)V" } : Jvm.MethodName)) ∈ lw_tbl := lw_at lw_m9 223 rfl
theorem q2244 : (Jvm.Cond.instanceMethod ({ cls := "BoxSpans$Reader", name := "take", desc := "(C)V" } : Jvm.MethodName)) ∈ lw_all := lw_g (lw_at lw_m9 224 rfl) rfl
theorem q2245 : (Jvm.Cond.code ({ cls := "BoxSpans$Reader", name := "take", desc := "(C)V" } : Jvm.MethodName) prog_6_method_4_code (2 : Nat) (Option.none : Option Jvm.ClassFile.FieldType)) ∈ lw_all := lw_g (lw_at lw_m9 225 rfl) rfl
theorem q2246 : (Jvm.Cond.methodLink "BoxSpans$Reader" (46 : Nat) ({ cls := "BoxSpans$Reader", name := "digit", desc := "()I" } : Jvm.MethodName)) ∈ lw_all := lw_g (lw_at lw_m9 226 rfl) rfl
theorem q2247 : (Jvm.Cond.privateMethod ({ cls := "BoxSpans$Reader", name := "digit", desc := "()I" } : Jvm.MethodName)) ∈ lw_tbl := lw_at lw_m9 227 rfl
theorem q2248 : (Jvm.Cond.instanceMethod ({ cls := "BoxSpans$Reader", name := "digit", desc := "()I" } : Jvm.MethodName)) ∈ lw_all := lw_g (lw_at lw_m9 228 rfl) rfl
theorem q2249 : (Jvm.Cond.code ({ cls := "BoxSpans$Reader", name := "digit", desc := "()I" } : Jvm.MethodName) prog_6_method_6_code (1 : Nat) (Option.some Jvm.ClassFile.FieldType.int)) ∈ lw_all := lw_g (lw_at lw_m9 229 rfl) rfl
theorem q2250 : (Jvm.Cond.methodLink "BoxSpans$Reader" (42 : Nat) ({ cls := "BoxSpans$Reader", name := "isDigit", desc := "()Z" } : Jvm.MethodName)) ∈ lw_all := lw_g (lw_at lw_m9 230 rfl) rfl
theorem q2251 : (Jvm.Cond.privateMethod ({ cls := "BoxSpans$Reader", name := "isDigit", desc := "()Z" } : Jvm.MethodName)) ∈ lw_tbl := lw_at lw_m9 231 rfl
theorem q2252 : (Jvm.Cond.instanceMethod ({ cls := "BoxSpans$Reader", name := "isDigit", desc := "()Z" } : Jvm.MethodName)) ∈ lw_all := lw_g (lw_at lw_m9 232 rfl) rfl
theorem q2253 : (Jvm.Cond.code ({ cls := "BoxSpans$Reader", name := "isDigit", desc := "()Z" } : Jvm.MethodName) prog_6_method_5_code (1 : Nat) (Option.some Jvm.ClassFile.FieldType.boolean)) ∈ lw_all := lw_g (lw_at lw_m9 233 rfl) rfl
theorem q2254 : (Jvm.Cond.methodLink "BoxSpans$Reader" (95 : Nat) ({ cls := "BoxSpans$Reader", name := "span", desc := "()LBoxSpans$Span;" } : Jvm.MethodName)) ∈ lw_all := lw_g (lw_at lw_m9 234 rfl) rfl
theorem q2255 : (Jvm.Cond.privateMethod ({ cls := "BoxSpans$Reader", name := "span", desc := "()LBoxSpans$Span;" } : Jvm.MethodName)) ∈ lw_tbl := lw_at lw_m9 235 rfl
theorem q2256 : (Jvm.Cond.instanceMethod ({ cls := "BoxSpans$Reader", name := "span", desc := "()LBoxSpans$Span;" } : Jvm.MethodName)) ∈ lw_all := lw_g (lw_at lw_m9 236 rfl) rfl
theorem q2257 : (Jvm.Cond.code ({ cls := "BoxSpans$Reader", name := "span", desc := "()LBoxSpans$Span;" } : Jvm.MethodName) prog_6_method_10_code (2 : Nat) (Option.some (Jvm.ClassFile.FieldType.object "BoxSpans$Span"))) ∈ lw_all := lw_g (lw_at lw_m9 237 rfl) rfl
theorem q2258 : (Jvm.Cond.methodLink "BoxSpans$Reader" (56 : Nat) ({ cls := "BoxSpans$Reader", name := "numberBehind", desc := "()I" } : Jvm.MethodName)) ∈ lw_all := lw_g (lw_at lw_m9 238 rfl) rfl
theorem q2259 : (Jvm.Cond.privateMethod ({ cls := "BoxSpans$Reader", name := "numberBehind", desc := "()I" } : Jvm.MethodName)) ∈ lw_tbl := lw_at lw_m9 239 rfl
theorem q2260 : (Jvm.Cond.instanceMethod ({ cls := "BoxSpans$Reader", name := "numberBehind", desc := "()I" } : Jvm.MethodName)) ∈ lw_all := lw_g (lw_at lw_m10 0 rfl) rfl
theorem q2261 : (Jvm.Cond.code ({ cls := "BoxSpans$Reader", name := "numberBehind", desc := "()I" } : Jvm.MethodName) prog_6_method_8_code (1 : Nat) (Option.some Jvm.ClassFile.FieldType.int)) ∈ lw_all := lw_g (lw_at lw_m10 1 rfl) rfl
theorem q2262 : (Jvm.Cond.methodLink "BoxSpans$Reader" (53 : Nat) ({ cls := "BoxSpans$Reader", name := "number", desc := "()I" } : Jvm.MethodName)) ∈ lw_all := lw_g (lw_at lw_m10 2 rfl) rfl
theorem q2263 : (Jvm.Cond.privateMethod ({ cls := "BoxSpans$Reader", name := "number", desc := "()I" } : Jvm.MethodName)) ∈ lw_tbl := lw_at lw_m10 3 rfl
theorem q2264 : (Jvm.Cond.instanceMethod ({ cls := "BoxSpans$Reader", name := "number", desc := "()I" } : Jvm.MethodName)) ∈ lw_all := lw_g (lw_at lw_m10 4 rfl) rfl
theorem q2265 : (Jvm.Cond.code ({ cls := "BoxSpans$Reader", name := "number", desc := "()I" } : Jvm.MethodName) prog_6_method_7_code (3 : Nat) (Option.some Jvm.ClassFile.FieldType.int)) ∈ lw_all := lw_g (lw_at lw_m10 5 rfl) rfl
theorem q2266 : (Jvm.Cond.classLink "BoxSpans$Reader" (59 : Nat) "BoxSpans$Span") ∈ lw_all := lw_g (lw_at lw_m10 6 rfl) rfl
theorem q2267 : (Jvm.Cond.methodLink "BoxSpans$Reader" (61 : Nat) ({ cls := "BoxSpans$Span", name := "<init>", desc := "(II)V" } : Jvm.MethodName)) ∈ lw_all := lw_g (lw_at lw_m10 7 rfl) rfl
theorem q2268 : (Jvm.Cond.classLink "BoxSpans$Reader" (99 : Nat) "BoxSpans$Command") ∈ lw_all := lw_g (lw_at lw_m10 8 rfl) rfl
theorem q2270 : (Jvm.Cond.static ({ cls := "BoxSpans$Reader", name := "lambda$letting$0", desc := "(IILBoxSpans$Span;LBoxSpans$Theatre;)I" } : Jvm.MethodName)) ∈ lw_all := lw_g (lw_at lw_m10 10 rfl) rfl
theorem q2271 : (Jvm.Cond.code ({ cls := "BoxSpans$Reader", name := "lambda$letting$0", desc := "(IILBoxSpans$Span;LBoxSpans$Theatre;)I" } : Jvm.MethodName) prog_6_method_33_code (4 : Nat) (Option.some Jvm.ClassFile.FieldType.int)) ∈ lw_all := lw_g (lw_at lw_m10 11 rfl) rfl
theorem q2272 : (Jvm.Cond.methodLink "BoxSpans$Reader" (237 : Nat) ({ cls := "BoxSpans$Theatre", name := "boxes", desc := "()I" } : Jvm.MethodName)) ∈ lw_all := lw_g (lw_at lw_m10 12 rfl) rfl
theorem q2273 : (Jvm.Cond.methodLinkNest "BoxSpans$Reader" (212 : Nat) ({ cls := "BoxSpans", name := "isIn", desc := "(III)Z" } : Jvm.MethodName) "BoxSpans") ∈ lw_tbl := lw_at lw_m10 13 rfl
theorem q2274 : (Jvm.Cond.methodLink "BoxSpans$Reader" (216 : Nat) ({ cls := "BoxSpans$Span", name := "from", desc := "()I" } : Jvm.MethodName)) ∈ lw_all := lw_g (lw_at lw_m10 14 rfl) rfl
theorem q2275 : (Jvm.Cond.methodLink "BoxSpans$Reader" (219 : Nat) ({ cls := "BoxSpans$Span", name := "to", desc := "()I" } : Jvm.MethodName)) ∈ lw_all := lw_g (lw_at lw_m10 15 rfl) rfl
theorem q2276 : (Jvm.Cond.methodLinkNest "BoxSpans$Reader" (222 : Nat) ({ cls := "BoxSpans", name := "isSpan", desc := "(II)Z" } : Jvm.MethodName) "BoxSpans") ∈ lw_tbl := lw_at lw_m10 16 rfl
theorem q2277 : (Jvm.Cond.methodLinkNest "BoxSpans$Reader" (199 : Nat) ({ cls := "BoxSpans", name := "asNumber", desc := "(Z)I" } : Jvm.MethodName) "BoxSpans") ∈ lw_tbl := lw_at lw_m10 17 rfl
theorem q2278 : (Jvm.Cond.static ({ cls := "BoxSpans$Reader", name := "lambda$letting$1", desc := "(IILBoxSpans$Span;LBoxSpans$Theatre;)I" } : Jvm.MethodName)) ∈ lw_all := lw_g (lw_at lw_m10 18 rfl) rfl
theorem q2279 : (Jvm.Cond.code ({ cls := "BoxSpans$Reader", name := "lambda$letting$1", desc := "(IILBoxSpans$Span;LBoxSpans$Theatre;)I" } : Jvm.MethodName) prog_6_method_32_code (4 : Nat) (Option.some Jvm.ClassFile.FieldType.int)) ∈ lw_all := lw_g (lw_at lw_m10 19 rfl) rfl
theorem q2280 : (Jvm.Cond.methodLink "BoxSpans$Reader" (233 : Nat) ({ cls := "BoxSpans$Theatre", name := "lets", desc := "(IILBoxSpans$Span;)I" } : Jvm.MethodName)) ∈ lw_all := lw_g (lw_at lw_m10 20 rfl) rfl
theorem q2281 : (Jvm.Cond.methodLink "BoxSpans$Reader" (106 : Nat) ({ cls := "BoxSpans$Command", name := "<init>", desc := "(LBoxSpans$Deed;LBoxSpans$Deed;)V" } : Jvm.MethodName)) ∈ lw_all := lw_g (lw_at lw_m10 21 rfl) rfl
theorem q2292 : (Jvm.Cond.methodLink "BoxSpans$Reader" (153 : Nat) ({ cls := "BoxSpans$Reader", name := "cancelling", desc := "()LBoxSpans$Command;" } : Jvm.MethodName)) ∈ lw_all := lw_g (lw_at lw_m10 32 rfl) rfl
theorem q2293 : (Jvm.Cond.privateMethod ({ cls := "BoxSpans$Reader", name := "cancelling", desc := "()LBoxSpans$Command;" } : Jvm.MethodName)) ∈ lw_tbl := lw_at lw_m10 33 rfl
theorem q2294 : (Jvm.Cond.instanceMethod ({ cls := "BoxSpans$Reader", name := "cancelling", desc := "()LBoxSpans$Command;" } : Jvm.MethodName)) ∈ lw_all := lw_g (lw_at lw_m10 34 rfl) rfl
theorem q2295 : (Jvm.Cond.code ({ cls := "BoxSpans$Reader", name := "cancelling", desc := "()LBoxSpans$Command;" } : Jvm.MethodName) prog_6_method_16_code (2 : Nat) (Option.some (Jvm.ClassFile.FieldType.object "BoxSpans$Command"))) ∈ lw_all := lw_g (lw_at lw_m10 35 rfl) rfl
theorem q2296 : (Jvm.Cond.static ({ cls := "BoxSpans$Reader", name := "lambda$cancelling$8", desc := "(ILBoxSpans$Theatre;)I" } : Jvm.MethodName)) ∈ lw_all := lw_g (lw_at lw_m10 36 rfl) rfl
theorem q2297 : (Jvm.Cond.code ({ cls := "BoxSpans$Reader", name := "lambda$cancelling$8", desc := "(ILBoxSpans$Theatre;)I" } : Jvm.MethodName) prog_6_method_25_code (2 : Nat) (Option.some Jvm.ClassFile.FieldType.int)) ∈ lw_all := lw_g (lw_at lw_m10 37 rfl) rfl
theorem q2298 : (Jvm.Cond.methodLink "BoxSpans$Reader" (206 : Nat) ({ cls := "BoxSpans$Theatre", name := "lettings", desc := "()Ljava/util/List;" } : Jvm.MethodName)) ∈ lw_all := lw_g (lw_at lw_m10 38 rfl) rfl
theorem q2299 : (Jvm.Cond.interfaceEntry "BoxSpans$Reader" (196 : Nat)) ∈ lw_tbl := lw_at lw_m10 39 rfl
theorem q2300 : (Jvm.Cond.methodLink "BoxSpans$Reader" (196 : Nat) ({ cls := "java/util/List", name := "size", desc := "()I" } : Jvm.MethodName)) ∈ lw_all := lw_g (lw_at lw_m10 40 rfl) rfl
theorem q2301 : (Jvm.Cond.static ({ cls := "BoxSpans$Reader", name := "lambda$cancelling$9", desc := "(ILBoxSpans$Theatre;)I" } : Jvm.MethodName)) ∈ lw_all := lw_g (lw_at lw_m10 41 rfl) rfl
theorem q2302 : (Jvm.Cond.code ({ cls := "BoxSpans$Reader", name := "lambda$cancelling$9", desc := "(ILBoxSpans$Theatre;)I" } : Jvm.MethodName) prog_6_method_24_code (2 : Nat) (Option.some Jvm.ClassFile.FieldType.int)) ∈ lw_all := lw_g (lw_at lw_m10 42 rfl) rfl
theorem q2303 : (Jvm.Cond.methodLink "BoxSpans$Reader" (203 : Nat) ({ cls := "BoxSpans$Theatre", name := "cancels", desc := "(I)I" } : Jvm.MethodName)) ∈ lw_all := lw_g (lw_at lw_m10 43 rfl) rfl
theorem q2304 : (Jvm.Cond.methodLink "BoxSpans$Reader" (156 : Nat) ({ cls := "BoxSpans$Reader", name := "moving", desc := "()LBoxSpans$Command;" } : Jvm.MethodName)) ∈ lw_all := lw_g (lw_at lw_m10 44 rfl) rfl
theorem q2305 : (Jvm.Cond.privateMethod ({ cls := "BoxSpans$Reader", name := "moving", desc := "()LBoxSpans$Command;" } : Jvm.MethodName)) ∈ lw_tbl := lw_at lw_m10 45 rfl
theorem q2306 : (Jvm.Cond.instanceMethod ({ cls := "BoxSpans$Reader", name := "moving", desc := "()LBoxSpans$Command;" } : Jvm.MethodName)) ∈ lw_all := lw_g (lw_at lw_m10 46 rfl) rfl
theorem q2307 : (Jvm.Cond.code ({ cls := "BoxSpans$Reader", name := "moving", desc := "()LBoxSpans$Command;" } : Jvm.MethodName) prog_6_method_13_code (4 : Nat) (Option.some (Jvm.ClassFile.FieldType.object "BoxSpans$Command"))) ∈ lw_all := lw_g (lw_at lw_m10 47 rfl) rfl
theorem q2308 : (Jvm.Cond.static ({ cls := "BoxSpans$Reader", name := "lambda$moving$2", desc := "(IILBoxSpans$Theatre;)I" } : Jvm.MethodName)) ∈ lw_all := lw_g (lw_at lw_m10 48 rfl) rfl
theorem q2309 : (Jvm.Cond.code ({ cls := "BoxSpans$Reader", name := "lambda$moving$2", desc := "(IILBoxSpans$Theatre;)I" } : Jvm.MethodName) prog_6_method_31_code (3 : Nat) (Option.some Jvm.ClassFile.FieldType.int)) ∈ lw_all := lw_g (lw_at lw_m10 49 rfl) rfl
theorem q2310 : (Jvm.Cond.static ({ cls := "BoxSpans$Reader", name := "lambda$moving$3", desc := "(IZILBoxSpans$Theatre;)I" } : Jvm.MethodName)) ∈ lw_all := lw_g (lw_at lw_m10 50 rfl) rfl
theorem q2311 : (Jvm.Cond.code ({ cls := "BoxSpans$Reader", name := "lambda$moving$3", desc := "(IZILBoxSpans$Theatre;)I" } : Jvm.MethodName) prog_6_method_30_code (4 : Nat) (Option.some Jvm.ClassFile.FieldType.int)) ∈ lw_all := lw_g (lw_at lw_m10 51 rfl) rfl
theorem q2312 : (Jvm.Cond.methodLink "BoxSpans$Reader" (230 : Nat) ({ cls := "BoxSpans$Theatre", name := "moves", desc := "(II)I" } : Jvm.MethodName)) ∈ lw_all := lw_g (lw_at lw_m10 52 rfl) rfl
theorem q2313 : (Jvm.Cond.methodLink "BoxSpans$Reader" (159 : Nat) ({ cls := "BoxSpans$Reader", name := "splitting", desc := "()LBoxSpans$Command;" } : Jvm.MethodName)) ∈ lw_all := lw_g (lw_at lw_m10 53 rfl) rfl
theorem q2314 : (Jvm.Cond.privateMethod ({ cls := "BoxSpans$Reader", name := "splitting", desc := "()LBoxSpans$Command;" } : Jvm.MethodName)) ∈ lw_tbl := lw_at lw_m10 54 rfl
theorem q2315 : (Jvm.Cond.instanceMethod ({ cls := "BoxSpans$Reader", name := "splitting", desc := "()LBoxSpans$Command;" } : Jvm.MethodName)) ∈ lw_all := lw_g (lw_at lw_m10 55 rfl) rfl
theorem q2316 : (Jvm.Cond.code ({ cls := "BoxSpans$Reader", name := "splitting", desc := "()LBoxSpans$Command;" } : Jvm.MethodName) prog_6_method_14_code (3 : Nat) (Option.some (Jvm.ClassFile.FieldType.object "BoxSpans$Command"))) ∈ lw_all := lw_g (lw_at lw_m10 56 rfl) rfl
theorem q2317 : (Jvm.Cond.static ({ cls := "BoxSpans$Reader", name := "lambda$splitting$4", desc := "(ILBoxSpans$Theatre;)I" } : Jvm.MethodName)) ∈ lw_all := lw_g (lw_at lw_m10 57 rfl) rfl
theorem q2318 : (Jvm.Cond.code ({ cls := "BoxSpans$Reader", name := "lambda$splitting$4", desc := "(ILBoxSpans$Theatre;)I" } : Jvm.MethodName) prog_6_method_29_code (2 : Nat) (Option.some Jvm.ClassFile.FieldType.int)) ∈ lw_all := lw_g (lw_at lw_m10 58 rfl) rfl
theorem q2319 : (Jvm.Cond.static ({ cls := "BoxSpans$Reader", name := "lambda$splitting$5", desc := "(IILBoxSpans$Theatre;)I" } : Jvm.MethodName)) ∈ lw_all := lw_g (lw_at lw_m10 59 rfl) rfl
theorem q2320 : (Jvm.Cond.code ({ cls := "BoxSpans$Reader", name := "lambda$splitting$5", desc := "(IILBoxSpans$Theatre;)I" } : Jvm.MethodName) prog_6_method_28_code (3 : Nat) (Option.some Jvm.ClassFile.FieldType.int)) ∈ lw_all := lw_g (lw_at lw_m10 60 rfl) rfl
theorem q2321 : (Jvm.Cond.methodLink "BoxSpans$Reader" (226 : Nat) ({ cls := "BoxSpans$Theatre", name := "splits", desc := "(II)I" } : Jvm.MethodName)) ∈ lw_all := lw_g (lw_at lw_m10 61 rfl) rfl
theorem q2322 : (Jvm.Cond.methodLink "BoxSpans$Reader" (162 : Nat) ({ cls := "BoxSpans$Reader", name := "wishing", desc := "()LBoxSpans$Command;" } : Jvm.MethodName)) ∈ lw_all := lw_g (lw_at lw_m10 62 rfl) rfl
theorem q2323 : (Jvm.Cond.privateMethod ({ cls := "BoxSpans$Reader", name := "wishing", desc := "()LBoxSpans$Command;" } : Jvm.MethodName)) ∈ lw_tbl := lw_at lw_m10 63 rfl
theorem q2324 : (Jvm.Cond.instanceMethod ({ cls := "BoxSpans$Reader", name := "wishing", desc := "()LBoxSpans$Command;" } : Jvm.MethodName)) ∈ lw_all := lw_g (lw_at lw_m10 64 rfl) rfl
theorem q2325 : (Jvm.Cond.code ({ cls := "BoxSpans$Reader", name := "wishing", desc := "()LBoxSpans$Command;" } : Jvm.MethodName) prog_6_method_15_code (3 : Nat) (Option.some (Jvm.ClassFile.FieldType.object "BoxSpans$Command"))) ∈ lw_all := lw_g (lw_at lw_m10 65 rfl) rfl
theorem q2326 : (Jvm.Cond.static ({ cls := "BoxSpans$Reader", name := "lambda$wishing$6", desc := "(ILBoxSpans$Span;LBoxSpans$Theatre;)I" } : Jvm.MethodName)) ∈ lw_all := lw_g (lw_at lw_m10 66 rfl) rfl
theorem q2327 : (Jvm.Cond.code ({ cls := "BoxSpans$Reader", name := "lambda$wishing$6", desc := "(ILBoxSpans$Span;LBoxSpans$Theatre;)I" } : Jvm.MethodName) prog_6_method_27_code (3 : Nat) (Option.some Jvm.ClassFile.FieldType.int)) ∈ lw_all := lw_g (lw_at lw_m10 67 rfl) rfl
theorem q2328 : (Jvm.Cond.static ({ cls := "BoxSpans$Reader", name := "lambda$wishing$7", desc := "(ILBoxSpans$Span;LBoxSpans$Theatre;)I" } : Jvm.MethodName)) ∈ lw_all := lw_g (lw_at lw_m10 68 rfl) rfl
theorem q2329 : (Jvm.Cond.code ({ cls := "BoxSpans$Reader", name := "lambda$wishing$7", desc := "(ILBoxSpans$Span;LBoxSpans$Theatre;)I" } : Jvm.MethodName) prog_6_method_26_code (3 : Nat) (Option.some Jvm.ClassFile.FieldType.int)) ∈ lw_all := lw_g (lw_at lw_m10 69 rfl) rfl
theorem q2330 : (Jvm.Cond.methodLink "BoxSpans$Reader" (209 : Nat) ({ cls := "BoxSpans$Theatre", name := "wishes", desc := "(ILBoxSpans$Span;)I" } : Jvm.MethodName)) ∈ lw_all := lw_g (lw_at lw_m10 70 rfl) rfl
theorem q2331 : (Jvm.Cond.methodLink "BoxSpans$Reader" (165 : Nat) ({ cls := "BoxSpans$Reader", name := "dropping", desc := "()LBoxSpans$Command;" } : Jvm.MethodName)) ∈ lw_all := lw_g (lw_at lw_m10 71 rfl) rfl
theorem q2332 : (Jvm.Cond.privateMethod ({ cls := "BoxSpans$Reader", name := "dropping", desc := "()LBoxSpans$Command;" } : Jvm.MethodName)) ∈ lw_tbl := lw_at lw_m10 72 rfl
theorem q2333 : (Jvm.Cond.instanceMethod ({ cls := "BoxSpans$Reader", name := "dropping", desc := "()LBoxSpans$Command;" } : Jvm.MethodName)) ∈ lw_all := lw_g (lw_at lw_m10 73 rfl) rfl
theorem q2334 : (Jvm.Cond.code ({ cls := "BoxSpans$Reader", name := "dropping", desc := "()LBoxSpans$Command;" } : Jvm.MethodName) prog_6_method_17_code (2 : Nat) (Option.some (Jvm.ClassFile.FieldType.object "BoxSpans$Command"))) ∈ lw_all := lw_g (lw_at lw_m10 74 rfl) rfl
theorem q2335 : (Jvm.Cond.static ({ cls := "BoxSpans$Reader", name := "lambda$dropping$10", desc := "(ILBoxSpans$Theatre;)I" } : Jvm.MethodName)) ∈ lw_all := lw_g (lw_at lw_m10 75 rfl) rfl
theorem q2336 : (Jvm.Cond.code ({ cls := "BoxSpans$Reader", name := "lambda$dropping$10", desc := "(ILBoxSpans$Theatre;)I" } : Jvm.MethodName) prog_6_method_23_code (2 : Nat) (Option.some Jvm.ClassFile.FieldType.int)) ∈ lw_all := lw_g (lw_at lw_m10 76 rfl) rfl
theorem q2337 : (Jvm.Cond.methodLink "BoxSpans$Reader" (192 : Nat) ({ cls := "BoxSpans$Theatre", name := "wishes", desc := "()Ljava/util/List;" } : Jvm.MethodName)) ∈ lw_all := lw_g (lw_at lw_m10 77 rfl) rfl
theorem q2338 : (Jvm.Cond.static ({ cls := "BoxSpans$Reader", name := "lambda$dropping$11", desc := "(ILBoxSpans$Theatre;)I" } : Jvm.MethodName)) ∈ lw_all := lw_g (lw_at lw_m10 78 rfl) rfl
theorem q2339 : (Jvm.Cond.code ({ cls := "BoxSpans$Reader", name := "lambda$dropping$11", desc := "(ILBoxSpans$Theatre;)I" } : Jvm.MethodName) prog_6_method_22_code (2 : Nat) (Option.some Jvm.ClassFile.FieldType.int)) ∈ lw_all := lw_g (lw_at lw_m10 79 rfl) rfl
theorem q2340 : (Jvm.Cond.methodLink "BoxSpans$Reader" (188 : Nat) ({ cls := "BoxSpans$Theatre", name := "drops", desc := "(I)I" } : Jvm.MethodName)) ∈ lw_all := lw_g (lw_at lw_m10 80 rfl) rfl
theorem q2341 : (Jvm.Cond.static ({ cls := "BoxSpans$Reader", name := "lambda$command$12", desc := "(LBoxSpans$Theatre;)I" } : Jvm.MethodName)) ∈ lw_all := lw_g (lw_at lw_m10 81 rfl) rfl
theorem q2342 : (Jvm.Cond.code ({ cls := "BoxSpans$Reader", name := "lambda$command$12", desc := "(LBoxSpans$Theatre;)I" } : Jvm.MethodName) prog_6_method_21_code (1 : Nat) (Option.some Jvm.ClassFile.FieldType.int)) ∈ lw_all := lw_g (lw_at lw_m10 82 rfl) rfl
theorem q2343 : (Jvm.Cond.static ({ cls := "BoxSpans$Reader", name := "lambda$command$13", desc := "(LBoxSpans$Theatre;)I" } : Jvm.MethodName)) ∈ lw_all := lw_g (lw_at lw_m10 83 rfl) rfl
theorem q2344 : (Jvm.Cond.code ({ cls := "BoxSpans$Reader", name := "lambda$command$13", desc := "(LBoxSpans$Theatre;)I" } : Jvm.MethodName) prog_6_method_20_code (1 : Nat) (Option.some Jvm.ClassFile.FieldType.int)) ∈ lw_all := lw_g (lw_at lw_m10 84 rfl) rfl
theorem q2345 : (Jvm.Cond.methodLink "BoxSpans$Reader" (183 : Nat) ({ cls := "BoxSpans$Theatre", name := "allots", desc := "()I" } : Jvm.MethodName)) ∈ lw_all := lw_g (lw_at lw_m10 85 rfl) rfl
theorem q2346 : (Jvm.Cond.interfaceEntry "BoxSpans$Reader" (178 : Nat)) ∈ lw_tbl := lw_at lw_m10 86 rfl
theorem q2347 : (Jvm.Cond.methodLink "BoxSpans$Reader" (178 : Nat) ({ cls := "java/util/List", name := "add", desc := "(Ljava/lang/Object;)Z" } : Jvm.MethodName)) ∈ lw_all := lw_g (lw_at lw_m10 87 rfl) rfl
theorem q3120 : (Jvm.Cond.castable "BoxSpans$Reader" "java/lang/Object") ∈ lw_tbl := lw_at lw_m13 140 rfl
theorem in_X11 : ∀ w ∈ wsX110, w ∈ lw_all := lw_in wsX110 [1980, 1982] (by decide +kernel) (by decide +kernel)
/-! BoxSpans$TextError -/
set_option maxRecDepth 100000
def RX12 : String := "BoxSpans$TextError"
def TX12 : u_T := fun k => match k with
  | 0 => ("java/lang/Throwable", "cause", "Ljava/lang/Throwable;", false)
  | 1 => ("java/lang/Throwable", "stackTrace", "[Ljava/lang/StackTraceElement;", false)
  | 2 => ("java/lang/Throwable", "suppressedExceptions", "Ljava/util/List;", false)
  | 3 => ("java/lang/Throwable", "detailMessage", "Ljava/lang/String;", false)
  | 4 => ("java/lang/Throwable", "backtrace", "Ljava/lang/Object;", false)
  | 5 => ("java/lang/Throwable", "depth", "I", false)
  | _ => ("BoxSpans$TextError", "position", "I", true)
def tyX12 : Nat → FieldType := fun k => match k with
  | 0 => .object "java/lang/Throwable"
  | 1 => .array (.object "java/lang/StackTraceElement")
  | 2 => .object "java/util/List"
  | 3 => .object "java/lang/String"
  | 4 => .object "java/lang/Object"
  | 5 => .int
  | _ => .int
abbrev wsX120 : List Cond := u_ws RX12 TX12 7
theorem nmX12 : ∀ a, a < 7 → ∀ b, b < 7 → a ≠ b → (TX12 a).2.1 ≠ (TX12 b).2.1 := by decide +kernel
theorem tyX12_ok : ∀ k, k < 7 → parseFieldDescriptor (TX12 k).2.2.1 = some (tyX12 k) := by decide +kernel
abbrev cX12_init : ByteArray := prog_11_method_1_code
def yX12_init : MethodName := ⟨RX12, "<init>", "(I)V"⟩
def dkwX12_init_0 : List UInt8 := [42, 1, 1, 183, 0, 1, 42, 27, 181, 0, 7, 177]
abbrev dktX12_init_0 : List UInt8 := dkwX12_init_0 ++ []
theorem dksX12_init_0 : cX12_init.data.toList.drop 0 = dktX12_init_0 := by decide +kernel
theorem dX12_init_0 : decode cX12_init 0 = .ok (.aload_n 0, 1) := dk_42 (dk_at dksX12_init_0 0 rfl rfl)
theorem dX12_init_1 : decode cX12_init 1 = .ok (.aconst_null, 1) := dk_1 (dk_at dksX12_init_0 1 rfl rfl)
theorem dX12_init_2 : decode cX12_init 2 = .ok (.aconst_null, 1) := dk_1 (dk_at dksX12_init_0 2 rfl rfl)
theorem dX12_init_3 : decode cX12_init 3 = .ok (.invokespecial 1, 3) := dk_183 0 1 (dk_at dksX12_init_0 3 rfl rfl)
theorem dX12_init_6 : decode cX12_init 6 = .ok (.aload_n 0, 1) := dk_42 (dk_at dksX12_init_0 6 rfl rfl)
theorem dX12_init_7 : decode cX12_init 7 = .ok (.iload_n 1, 1) := dk_27 (dk_at dksX12_init_0 7 rfl rfl)
theorem dX12_init_8 : decode cX12_init 8 = .ok (.putfield 7, 3) := dk_181 0 7 (dk_at dksX12_init_0 8 rfl rfl)
theorem dX12_init_11 : decode cX12_init 11 = .ok (.return_, 1) := dk_177 (dk_at dksX12_init_0 11 rfl rfl)
abbrev cX12_position : ByteArray := prog_11_method_2_code
def yX12_position : MethodName := ⟨RX12, "position", "()I"⟩
theorem dX12_position_0 : decode cX12_position 0 = .ok (.aload_n 0, 1) := by decide +kernel
theorem dX12_position_1 : decode cX12_position 1 = .ok (.getfield 7, 3) := by decide +kernel
theorem dX12_position_4 : decode cX12_position 4 = .ok (.ireturn, 1) := by decide +kernel
theorem q146 : (Jvm.Cond.initialized "BoxSpans$TextError") ∈ lw_all := lw_g (lw_at lw_m1 46 rfl) rfl
theorem q392 : (Jvm.Cond.selects "BoxSpans$TextError" ({ cls := "java/lang/Throwable", name := "fillInStackTrace", desc := "()Ljava/lang/Throwable;" } : Jvm.MethodName) ({ cls := "java/lang/Throwable", name := "fillInStackTrace", desc := "()Ljava/lang/Throwable;" } : Jvm.MethodName)) ∈ lw_all := lw_g (lw_at lw_m2 52 rfl) rfl
theorem q888 : (Jvm.Cond.selects "BoxSpans$TextError" ({ cls := "java/lang/Throwable", name := "toString", desc := "()Ljava/lang/String;" } : Jvm.MethodName) ({ cls := "java/lang/Throwable", name := "toString", desc := "()Ljava/lang/String;" } : Jvm.MethodName)) ∈ lw_all := lw_g (lw_at lw_m4 68 rfl) rfl
theorem q909 : (Jvm.Cond.selects "BoxSpans$TextError" ({ cls := "java/lang/Object", name := "getClass", desc := "()Ljava/lang/Class;" } : Jvm.MethodName) ({ cls := "java/lang/Object", name := "getClass", desc := "()Ljava/lang/Class;" } : Jvm.MethodName)) ∈ lw_all := lw_g (lw_at lw_m4 89 rfl) rfl
theorem q937 : (Jvm.Cond.selects "BoxSpans$TextError" ({ cls := "java/lang/Throwable", name := "getLocalizedMessage", desc := "()Ljava/lang/String;" } : Jvm.MethodName) ({ cls := "java/lang/Throwable", name := "getLocalizedMessage", desc := "()Ljava/lang/String;" } : Jvm.MethodName)) ∈ lw_all := lw_g (lw_at lw_m4 117 rfl) rfl
theorem q951 : (Jvm.Cond.selects "BoxSpans$TextError" ({ cls := "java/lang/Throwable", name := "getMessage", desc := "()Ljava/lang/String;" } : Jvm.MethodName) ({ cls := "java/lang/Throwable", name := "getMessage", desc := "()Ljava/lang/String;" } : Jvm.MethodName)) ∈ lw_all := lw_g (lw_at lw_m4 131 rfl) rfl
theorem q2071 : (Jvm.Cond.selects "BoxSpans$TextError" ({ cls := "java/lang/Object", name := "toString", desc := "()Ljava/lang/String;" } : Jvm.MethodName) ({ cls := "java/lang/Throwable", name := "toString", desc := "()Ljava/lang/String;" } : Jvm.MethodName)) ∈ lw_all := lw_g (lw_at lw_m9 51 rfl) rfl
theorem q2145 : (Jvm.Cond.instantiable "BoxSpans$TextError" (7 : Nat)) ∈ lw_all := lw_g (lw_at lw_m9 125 rfl) rfl
theorem q2146 : (Jvm.Cond.castable "BoxSpans$TextError" "BoxSpans$TextError") ∈ lw_tbl := lw_at lw_m9 126 rfl
theorem q2147 : (Jvm.Cond.selects "BoxSpans$TextError" ({ cls := "java/lang/Throwable", name := "fillInStackTrace", desc := "(I)Ljava/lang/Throwable;" } : Jvm.MethodName) ({ cls := "java/lang/Throwable", name := "fillInStackTrace", desc := "(I)Ljava/lang/Throwable;" } : Jvm.MethodName)) ∈ lw_all := lw_g (lw_at lw_m9 127 rfl) rfl
theorem q2148 : (Jvm.Cond.lays "BoxSpans$TextError" "java/lang/Throwable" "cause" "Ljava/lang/Throwable;") ∈ lw_all := lw_g (lw_at lw_m9 128 rfl) rfl
theorem q2149 : (Jvm.Cond.lays "BoxSpans$TextError" "java/lang/Throwable" "stackTrace" "[Ljava/lang/StackTraceElement;") ∈ lw_all := lw_g (lw_at lw_m9 129 rfl) rfl
theorem q2150 : (Jvm.Cond.lays "BoxSpans$TextError" "java/lang/Throwable" "suppressedExceptions" "Ljava/util/List;") ∈ lw_all := lw_g (lw_at lw_m9 130 rfl) rfl
theorem q2151 : (Jvm.Cond.lays "BoxSpans$TextError" "java/lang/Throwable" "detailMessage" "Ljava/lang/String;") ∈ lw_all := lw_g (lw_at lw_m9 131 rfl) rfl
theorem q2152 : (Jvm.Cond.lays "BoxSpans$TextError" "java/lang/Throwable" "backtrace" "Ljava/lang/Object;") ∈ lw_all := lw_g (lw_at lw_m9 132 rfl) rfl
theorem q2154 : (Jvm.Cond.instanceMethod ({ cls := "BoxSpans$TextError", name := "<init>", desc := "(I)V" } : Jvm.MethodName)) ∈ lw_all := lw_g (lw_at lw_m9 134 rfl) rfl
theorem q2155 : (Jvm.Cond.code ({ cls := "BoxSpans$TextError", name := "<init>", desc := "(I)V" } : Jvm.MethodName) prog_11_method_1_code (2 : Nat) (Option.none : Option Jvm.ClassFile.FieldType)) ∈ lw_all := lw_g (lw_at lw_m9 135 rfl) rfl
theorem q2156 : (Jvm.Cond.methodLink "BoxSpans$TextError" (1 : Nat) ({ cls := "java/lang/Exception", name := "<init>", desc := "(Ljava/lang/String;Ljava/lang/Throwable;)V" } : Jvm.MethodName)) ∈ lw_all := lw_g (lw_at lw_m9 136 rfl) rfl
theorem q2157 : (Jvm.Cond.fieldLink "BoxSpans$TextError" (7 : Nat) "BoxSpans$TextError" "position" "I") ∈ lw_all := lw_g (lw_at lw_m9 137 rfl) rfl
theorem q2158 : (Jvm.Cond.laysFinal "BoxSpans$TextError" "BoxSpans$TextError" "position" "I") ∈ lw_all := lw_g (lw_at lw_m9 138 rfl) rfl
theorem q2159 : (Jvm.Cond.soleField "BoxSpans$TextError" "position") ∈ lw_all := lw_g (lw_at lw_m9 139 rfl) rfl
theorem q2160 : (Jvm.Cond.lays "BoxSpans$TextError" "java/lang/Throwable" "depth" "I") ∈ lw_all := lw_g (lw_at lw_m9 140 rfl) rfl
theorem q2161 : (Jvm.Cond.superclass "BoxSpans$TextError" "java/lang/Exception") ∈ lw_all := lw_g (lw_at lw_m9 141 rfl) rfl
theorem q2423 : (Jvm.Cond.instanceMethod ({ cls := "BoxSpans$TextError", name := "position", desc := "()I" } : Jvm.MethodName)) ∈ lw_all := lw_g (lw_at lw_m10 163 rfl) rfl
theorem q2424 : (Jvm.Cond.selects "BoxSpans$TextError" ({ cls := "BoxSpans$TextError", name := "position", desc := "()I" } : Jvm.MethodName) ({ cls := "BoxSpans$TextError", name := "position", desc := "()I" } : Jvm.MethodName)) ∈ lw_all := lw_g (lw_at lw_m10 164 rfl) rfl
theorem q2425 : (Jvm.Cond.code ({ cls := "BoxSpans$TextError", name := "position", desc := "()I" } : Jvm.MethodName) prog_11_method_2_code (1 : Nat) (Option.some Jvm.ClassFile.FieldType.int)) ∈ lw_all := lw_g (lw_at lw_m10 165 rfl) rfl
theorem q3122 : (Jvm.Cond.castable "BoxSpans$TextError" "java/lang/Object") ∈ lw_tbl := lw_at lw_m13 142 rfl
theorem in_X12 : ∀ w ∈ wsX120, w ∈ lw_all := lw_in wsX120 [2148, 2149, 2150, 2151, 2152, 2160, 2158] (by decide +kernel) (by decide +kernel)
/-! BoxSpans$Command -/
set_option maxRecDepth 100000
def RX13 : String := "BoxSpans$Command"
def TX13 : u_T := fun k => match k with
  | 0 => ("BoxSpans$Command", "check", "LBoxSpans$Deed;", true)
  | _ => ("BoxSpans$Command", "deed", "LBoxSpans$Deed;", true)
def tyX13 : Nat → FieldType := fun k => match k with
  | 0 => .object "BoxSpans$Deed"
  | _ => .object "BoxSpans$Deed"
abbrev wsX130 : List Cond := u_ws RX13 TX13 2
theorem nmX13 : ∀ a, a < 2 → ∀ b, b < 2 → a ≠ b → (TX13 a).2.1 ≠ (TX13 b).2.1 := by decide +kernel
theorem tyX13_ok : ∀ k, k < 2 → parseFieldDescriptor (TX13 k).2.2.1 = some (tyX13 k) := by decide +kernel
abbrev cX13_init : ByteArray := prog_2_method_1_code
def yX13_init : MethodName := ⟨RX13, "<init>", "(LBoxSpans$Deed;LBoxSpans$Deed;)V"⟩
def dkwX13_init_0 : List UInt8 := [42, 183, 0, 1, 42, 43, 181, 0, 7, 42, 44, 181, 0, 13, 177]
abbrev dktX13_init_0 : List UInt8 := dkwX13_init_0 ++ []
theorem dksX13_init_0 : cX13_init.data.toList.drop 0 = dktX13_init_0 := by decide +kernel
theorem dX13_init_0 : decode cX13_init 0 = .ok (.aload_n 0, 1) := dk_42 (dk_at dksX13_init_0 0 rfl rfl)
theorem dX13_init_1 : decode cX13_init 1 = .ok (.invokespecial 1, 3) := dk_183 0 1 (dk_at dksX13_init_0 1 rfl rfl)
theorem dX13_init_4 : decode cX13_init 4 = .ok (.aload_n 0, 1) := dk_42 (dk_at dksX13_init_0 4 rfl rfl)
theorem dX13_init_5 : decode cX13_init 5 = .ok (.aload_n 1, 1) := dk_43 (dk_at dksX13_init_0 5 rfl rfl)
theorem dX13_init_6 : decode cX13_init 6 = .ok (.putfield 7, 3) := dk_181 0 7 (dk_at dksX13_init_0 6 rfl rfl)
theorem dX13_init_9 : decode cX13_init 9 = .ok (.aload_n 0, 1) := dk_42 (dk_at dksX13_init_0 9 rfl rfl)
theorem dX13_init_10 : decode cX13_init 10 = .ok (.aload_n 2, 1) := dk_44 (dk_at dksX13_init_0 10 rfl rfl)
theorem dX13_init_11 : decode cX13_init 11 = .ok (.putfield 13, 3) := dk_181 0 13 (dk_at dksX13_init_0 11 rfl rfl)
theorem dX13_init_14 : decode cX13_init 14 = .ok (.return_, 1) := dk_177 (dk_at dksX13_init_0 14 rfl rfl)
abbrev cX13_isCall : ByteArray := prog_2_method_2_code
def yX13_isCall : MethodName := ⟨RX13, "isCall", "(LBoxSpans$Theatre;)Z"⟩
def dkwX13_isCall_0 : List UInt8 := [42, 180, 0, 7, 43, 185, 0, 16, 2, 0, 4, 160, 0, 7, 4, 167, 0, 4, 3, 172]
abbrev dktX13_isCall_0 : List UInt8 := dkwX13_isCall_0 ++ []
theorem dksX13_isCall_0 : cX13_isCall.data.toList.drop 0 = dktX13_isCall_0 := by decide +kernel
theorem dX13_isCall_0 : decode cX13_isCall 0 = .ok (.aload_n 0, 1) := dk_42 (dk_at dksX13_isCall_0 0 rfl rfl)
theorem dX13_isCall_1 : decode cX13_isCall 1 = .ok (.getfield 7, 3) := dk_180 0 7 (dk_at dksX13_isCall_0 1 rfl rfl)
theorem dX13_isCall_4 : decode cX13_isCall 4 = .ok (.aload_n 1, 1) := dk_43 (dk_at dksX13_isCall_0 4 rfl rfl)
theorem dX13_isCall_5 : decode cX13_isCall 5 = .ok (.invokeinterface 16 2, 5) := by decide +kernel
theorem dX13_isCall_10 : decode cX13_isCall 10 = .ok (.iconst 1, 1) := dk_4 (dk_at dksX13_isCall_0 10 rfl rfl)
theorem dX13_isCall_11 : decode cX13_isCall 11 = .ok (.if_icmp .ne 7, 3) := dk_160 0 7 (dk_at dksX13_isCall_0 11 rfl rfl)
theorem dX13_isCall_14 : decode cX13_isCall 14 = .ok (.iconst 1, 1) := dk_4 (dk_at dksX13_isCall_0 14 rfl rfl)
theorem dX13_isCall_15 : decode cX13_isCall 15 = .ok (.goto 4, 3) := dk_167 0 4 (dk_at dksX13_isCall_0 15 rfl rfl)
theorem dX13_isCall_18 : decode cX13_isCall 18 = .ok (.iconst 0, 1) := dk_3 (dk_at dksX13_isCall_0 18 rfl rfl)
theorem dX13_isCall_19 : decode cX13_isCall 19 = .ok (.ireturn, 1) := dk_172 (dk_at dksX13_isCall_0 19 rfl rfl)
abbrev cX13_does : ByteArray := prog_2_method_3_code
def yX13_does : MethodName := ⟨RX13, "does", "(LBoxSpans$Theatre;)I"⟩
def dkwX13_does_0 : List UInt8 := [42, 180, 0, 13, 43, 185, 0, 16, 2, 0, 172]
abbrev dktX13_does_0 : List UInt8 := dkwX13_does_0 ++ []
theorem dksX13_does_0 : cX13_does.data.toList.drop 0 = dktX13_does_0 := by decide +kernel
theorem dX13_does_0 : decode cX13_does 0 = .ok (.aload_n 0, 1) := dk_42 (dk_at dksX13_does_0 0 rfl rfl)
theorem dX13_does_1 : decode cX13_does 1 = .ok (.getfield 13, 3) := dk_180 0 13 (dk_at dksX13_does_0 1 rfl rfl)
theorem dX13_does_4 : decode cX13_does 4 = .ok (.aload_n 1, 1) := dk_43 (dk_at dksX13_does_0 4 rfl rfl)
theorem dX13_does_5 : decode cX13_does 5 = .ok (.invokeinterface 16 2, 5) := by decide +kernel
theorem dX13_does_10 : decode cX13_does 10 = .ok (.ireturn, 1) := dk_172 (dk_at dksX13_does_0 10 rfl rfl)
theorem q147 : (Jvm.Cond.initialized "BoxSpans$Command") ∈ lw_all := lw_g (lw_at lw_m1 47 rfl) rfl
theorem q902 : (Jvm.Cond.selects "BoxSpans$Command" ({ cls := "java/lang/Object", name := "getClass", desc := "()Ljava/lang/Class;" } : Jvm.MethodName) ({ cls := "java/lang/Object", name := "getClass", desc := "()Ljava/lang/Class;" } : Jvm.MethodName)) ∈ lw_all := lw_g (lw_at lw_m4 82 rfl) rfl
theorem q2064 : (Jvm.Cond.selects "BoxSpans$Command" ({ cls := "java/lang/Object", name := "toString", desc := "()Ljava/lang/String;" } : Jvm.MethodName) ({ cls := "java/lang/Object", name := "toString", desc := "()Ljava/lang/String;" } : Jvm.MethodName)) ∈ lw_all := lw_g (lw_at lw_m9 44 rfl) rfl
theorem q2269 : (Jvm.Cond.instantiable "BoxSpans$Command" (2 : Nat)) ∈ lw_all := lw_g (lw_at lw_m10 9 rfl) rfl
theorem q2282 : (Jvm.Cond.instanceMethod ({ cls := "BoxSpans$Command", name := "<init>", desc := "(LBoxSpans$Deed;LBoxSpans$Deed;)V" } : Jvm.MethodName)) ∈ lw_all := lw_g (lw_at lw_m10 22 rfl) rfl
theorem q2283 : (Jvm.Cond.code ({ cls := "BoxSpans$Command", name := "<init>", desc := "(LBoxSpans$Deed;LBoxSpans$Deed;)V" } : Jvm.MethodName) prog_2_method_1_code (3 : Nat) (Option.none : Option Jvm.ClassFile.FieldType)) ∈ lw_all := lw_g (lw_at lw_m10 23 rfl) rfl
theorem q2284 : (Jvm.Cond.methodLink "BoxSpans$Command" (1 : Nat) ({ cls := "java/lang/Object", name := "<init>", desc := "()V" } : Jvm.MethodName)) ∈ lw_all := lw_g (lw_at lw_m10 24 rfl) rfl
theorem q2285 : (Jvm.Cond.fieldLink "BoxSpans$Command" (7 : Nat) "BoxSpans$Command" "check" "LBoxSpans$Deed;") ∈ lw_all := lw_g (lw_at lw_m10 25 rfl) rfl
theorem q2286 : (Jvm.Cond.fieldLink "BoxSpans$Command" (13 : Nat) "BoxSpans$Command" "deed" "LBoxSpans$Deed;") ∈ lw_all := lw_g (lw_at lw_m10 26 rfl) rfl
theorem q2287 : (Jvm.Cond.laysFinal "BoxSpans$Command" "BoxSpans$Command" "check" "LBoxSpans$Deed;") ∈ lw_all := lw_g (lw_at lw_m10 27 rfl) rfl
theorem q2288 : (Jvm.Cond.soleField "BoxSpans$Command" "check") ∈ lw_all := lw_g (lw_at lw_m10 28 rfl) rfl
theorem q2289 : (Jvm.Cond.laysFinal "BoxSpans$Command" "BoxSpans$Command" "deed" "LBoxSpans$Deed;") ∈ lw_all := lw_g (lw_at lw_m10 29 rfl) rfl
theorem q2290 : (Jvm.Cond.soleField "BoxSpans$Command" "deed") ∈ lw_all := lw_g (lw_at lw_m10 30 rfl) rfl
theorem q2291 : (Jvm.Cond.superclass "BoxSpans$Command" "java/lang/Object") ∈ lw_all := lw_g (lw_at lw_m10 31 rfl) rfl
theorem q2360 : (Jvm.Cond.instanceMethod ({ cls := "BoxSpans$Command", name := "isCall", desc := "(LBoxSpans$Theatre;)Z" } : Jvm.MethodName)) ∈ lw_all := lw_g (lw_at lw_m10 100 rfl) rfl
theorem q2361 : (Jvm.Cond.selects "BoxSpans$Command" ({ cls := "BoxSpans$Command", name := "isCall", desc := "(LBoxSpans$Theatre;)Z" } : Jvm.MethodName) ({ cls := "BoxSpans$Command", name := "isCall", desc := "(LBoxSpans$Theatre;)Z" } : Jvm.MethodName)) ∈ lw_all := lw_g (lw_at lw_m10 101 rfl) rfl
theorem q2362 : (Jvm.Cond.code ({ cls := "BoxSpans$Command", name := "isCall", desc := "(LBoxSpans$Theatre;)Z" } : Jvm.MethodName) prog_2_method_2_code (2 : Nat) (Option.some Jvm.ClassFile.FieldType.boolean)) ∈ lw_all := lw_g (lw_at lw_m10 102 rfl) rfl
theorem q2363 : (Jvm.Cond.interfaceEntry "BoxSpans$Command" (16 : Nat)) ∈ lw_tbl := lw_at lw_m10 103 rfl
theorem q2364 : (Jvm.Cond.methodLink "BoxSpans$Command" (16 : Nat) ({ cls := "BoxSpans$Deed", name := "does", desc := "(LBoxSpans$Theatre;)I" } : Jvm.MethodName)) ∈ lw_all := lw_g (lw_at lw_m10 104 rfl) rfl
theorem q2367 : (Jvm.Cond.instanceMethod ({ cls := "BoxSpans$Command", name := "does", desc := "(LBoxSpans$Theatre;)I" } : Jvm.MethodName)) ∈ lw_all := lw_g (lw_at lw_m10 107 rfl) rfl
theorem q2368 : (Jvm.Cond.selects "BoxSpans$Command" ({ cls := "BoxSpans$Command", name := "does", desc := "(LBoxSpans$Theatre;)I" } : Jvm.MethodName) ({ cls := "BoxSpans$Command", name := "does", desc := "(LBoxSpans$Theatre;)I" } : Jvm.MethodName)) ∈ lw_all := lw_g (lw_at lw_m10 108 rfl) rfl
theorem q2369 : (Jvm.Cond.code ({ cls := "BoxSpans$Command", name := "does", desc := "(LBoxSpans$Theatre;)I" } : Jvm.MethodName) prog_2_method_3_code (2 : Nat) (Option.some Jvm.ClassFile.FieldType.int)) ∈ lw_all := lw_g (lw_at lw_m10 109 rfl) rfl
theorem q3123 : (Jvm.Cond.castable "BoxSpans$Command" "java/lang/Object") ∈ lw_tbl := lw_at lw_m13 143 rfl
theorem in_X13 : ∀ w ∈ wsX130, w ∈ lw_all := lw_in wsX130 [2287, 2289] (by decide +kernel) (by decide +kernel)
