/-! what the law reaches, 2 -/
section
variable {p : Program} {l : Launch} {e : Env} {R : Room} {s : State} {m : MethodId} {args : Array Value} {below : List Frame} {meth : Method} {c : Code} {Ω : zm_W} {K : zm_K} {n0 k0 : Nat}
theorem hd_X1_lambda_box_0 : yX1_lambda_box_0.cls ≠ "java/lang/invoke/MethodHandle" ∧ yX1_lambda_box_0.cls ≠ "java/lang/invoke/VarHandle" ∧ (parseMethodDescriptor yX1_lambda_box_0.desc).map (fun d => d.parameters.length) = some 2 := by decide +kernel
noncomputable def fn_X1_lambda_box_0 (K : zm_K) (a0 : Int32) (a1 : zm_R) : zm_M Int32 :=
  zm_bnd (zm_bnd (zm_is a1 19) fun _ => fn_X2_opens K a1 a0) fun v2 =>
  zm_ret v2
theorem ct_X1_lambda_box_0 {l : Launch} {Ω : zm_W} {K : zm_K} (H : zm_H Ω K) (a0 : Int32) (a1 : zm_R) : zm_Ct l Ω yX1_lambda_box_0 (ws_ yX1_lambda_box_0 cX1_lambda_box_0 2 (Option.some Jvm.ClassFile.FieldType.int)) 11 280 [.int a0, va_rf a1] zm_tvI (fn_X1_lambda_box_0 K a0 a1) := by
  refine zm_ct H.1 (by decide +kernel) (zl_le (zl_I (zl_R zl_nil)) (Nat.le_of_ble_eq_true rfl)) ?_
  intro p e R s m args below meth c n0 k0 C hX ls hl
  have hx := C.1
  have hb := C.2.1
  simp only [zg_I, zg_R, zg_nil] at hl
  have hl : lv_has ls 2 [(0, .int a0), (1, va_rf a1)] := hl
  refine rk_rf ?_
  unfold fn_X1_lambda_box_0
  refine rk_of (fun _ _ _ _ _ k => lr_aload_n hx hb dX1_lambda_box_0_0 rfl (lv_at hl 1 rfl) (lv_iload_n hx hb dX1_lambda_box_0_1 rfl (lv_at hl 0 rfl) k)) ?_
  refine rk_callI hX (cl_V (rest := []) (av := [.int a0]) C (hc_X2 H) (ct_X2_opens H a1 a0) (lw_V q1145 q1146 q1147 q102 q1148) ⟨rfl, hd_X2_opens⟩ ⟨(Nat.le_of_ble_eq_true rfl), (Nat.le_of_ble_eq_true rfl)⟩ rfl hl.1 rfl (zw_le zw_nil (Nat.le_of_ble_eq_true rfl)) dX1_lambda_box_0_2) (fun v2 => ?_)
  exact rk_top (rf_iret C rfl dX1_lambda_box_0_5)
theorem hd_J14_intValue : yJ14_intValue.cls ≠ "java/lang/invoke/MethodHandle" ∧ yJ14_intValue.cls ≠ "java/lang/invoke/VarHandle" ∧ (parseMethodDescriptor yJ14_intValue.desc).map (fun d => d.parameters.length) = some 0 := by decide +kernel
noncomputable def fn_J14_intValue (K : zm_K) (a0 : zm_R) : zm_M Int32 :=
  zm_bnd (zm_getI a0 6 0) fun v1 =>
  zm_ret v1
theorem ct_J14_intValue {l : Launch} {Ω : zm_W} {K : zm_K} (H : zm_H Ω K) (a0 : zm_R) : zm_Ct l Ω yJ14_intValue (ws_ yJ14_intValue cJ14_intValue 1 (Option.some Jvm.ClassFile.FieldType.int)) 1 64 [va_rf a0] zm_tvI (fn_J14_intValue K a0) := by
  refine zm_ct H.1 (by decide +kernel) (zl_le (zl_R zl_nil) (Nat.le_of_ble_eq_true rfl)) ?_
  intro p e R s m args below meth c n0 k0 C hX ls hl
  have hx := C.1
  have hb := C.2.1
  simp only [zg_R, zg_nil] at hl
  have hl : lv_has ls 1 [(0, va_rf a0)] := hl
  refine rk_rf ?_
  unfold fn_J14_intValue
  refine rk_of (fun _ _ _ _ _ k => lr_aload_n hx hb dJ14_intValue_0 rfl (lv_at hl 0 rfl) k) ?_
  refine rk_get zm_rdI_eq C (hc_J14 H) (k := 0) (Nat.le_of_ble_eq_true rfl) in_J14 q1194 (fun _ h => h) dJ14_intValue_1 (fun v1 => ?_)
  exact rk_top (rf_iret C rfl dJ14_intValue_4)
theorem hd_X2_seats : yX2_seats.cls ≠ "java/lang/invoke/MethodHandle" ∧ yX2_seats.cls ≠ "java/lang/invoke/VarHandle" ∧ (parseMethodDescriptor yX2_seats.desc).map (fun d => d.parameters.length) = some 1 := by decide +kernel
noncomputable def fn_X2_seats (K : zm_K) (a0 : zm_R) (a1 : Int32) : zm_M Int32 :=
  zm_bnd (zm_getR a0 19 0) fun v1 =>
  zm_bnd (zm_bnd (zm_cls v1) fun ci => if ci = 0 then fn_J2_get K v1 a1 else if ci = 1 then fn_J4_get K v1 a1 else zm_fl) fun v5 =>
  zm_bnd (zm_chk [6] [] v5) fun _ =>
  zm_bnd (zm_bnd (zm_is v5 6) fun _ => fn_J14_intValue K v5) fun v13 =>
  zm_ret v13
theorem ct_X2_seats {l : Launch} {Ω : zm_W} {K : zm_K} (H : zm_H Ω K) (a0 : zm_R) (a1 : Int32) : zm_Ct l Ω yX2_seats (ws_ yX2_seats cX2_seats 2 (Option.some Jvm.ClassFile.FieldType.int)) 10 254 [va_rf a0, .int a1] zm_tvI (fn_X2_seats K a0 a1) := by
  refine zm_ct H.1 (by decide +kernel) (zl_le (zl_R (zl_I zl_nil)) (Nat.le_of_ble_eq_true rfl)) ?_
  intro p e R s m args below meth c n0 k0 C hX ls hl
  have hx := C.1
  have hb := C.2.1
  simp only [zg_I, zg_R, zg_nil] at hl
  have hl : lv_has ls 2 [(0, va_rf a0), (1, .int a1)] := hl
  refine rk_rf ?_
  unfold fn_X2_seats
  refine rk_of (fun _ _ _ _ _ k => lr_aload_n hx hb dX2_seats_0 rfl (lv_at hl 0 rfl) k) ?_
  refine rk_get zm_rdR_eq C (hc_X2 H) (k := 0) (Nat.le_of_ble_eq_true rfl) in_X2 q197 (fun _ h => h) dX2_seats_1 (fun v1 => ?_)
  refine rk_of (fun _ _ _ _ _ k => lv_iload_n hx hb dX2_seats_4 rfl (lv_at hl 1 rfl) k) ?_
  refine rk_callR hX (cl_dsp (fun ci => cl_case (cl_F (n := 1) (rest := []) (av := [.int a1]) C (hc_J2 H) (ct_J2_get H v1 a1) (lw_F q1064 q1067 q847 q105 q848) (zh_Fw H C (by decide) q1066 q1065 q1069 q1068 q309) (by decide +kernel) ⟨(Nat.le_of_ble_eq_true rfl), (Nat.le_of_ble_eq_true rfl)⟩ rfl hl.1 rfl (zw_le zw_nil (Nat.le_of_ble_eq_true rfl)) dX2_seats_5) (cl_case (cl_F (n := 1) (rest := []) (av := [.int a1]) C (hc_J4 H) (ct_J4_get H v1 a1) (lw_F q1064 q1070 q860 q107 q861) (zh_Fw H C (by decide) q1066 q1065 q1072 q1071 q336) (by decide +kernel) ⟨(Nat.le_of_ble_eq_true rfl), (Nat.le_of_ble_eq_true rfl)⟩ rfl hl.1 rfl (zw_le zw_nil (Nat.le_of_ble_eq_true rfl)) dX2_seats_5) (cl_fl)))) (fun v5 => ?_)
  refine rk_chk C q1424 (zc_cons (zc_s (hc_J14 H)) zc_nil) zp_nil dX2_seats_10 ?_
  refine rk_callI hX (cl_V (rest := []) (av := []) C (hc_J14 H) (ct_J14_intValue H v5) (lw_V q1425 q1426 q1427 q119 q1428) ⟨rfl, hd_J14_intValue⟩ ⟨(Nat.le_of_ble_eq_true rfl), (Nat.le_of_ble_eq_true rfl)⟩ rfl hl.1 rfl (zw_le zw_nil (Nat.le_of_ble_eq_true rfl)) dX2_seats_13) (fun v13 => ?_)
  exact rk_top (rf_iret C rfl dX2_seats_16)
theorem hd_X2_letting : yX2_letting.cls ≠ "java/lang/invoke/MethodHandle" ∧ yX2_letting.cls ≠ "java/lang/invoke/VarHandle" ∧ (parseMethodDescriptor yX2_letting.desc).map (fun d => d.parameters.length) = some 1 := by decide +kernel
noncomputable def fn_X2_letting (K : zm_K) (a0 : zm_R) (a1 : Int32) : zm_M zm_R :=
  zm_bnd (zm_getR a0 19 1) fun v1 =>
  zm_bnd (zm_bnd (zm_cls v1) fun ci => if ci = 0 then fn_J2_get K v1 a1 else if ci = 1 then fn_J4_get K v1 a1 else zm_fl) fun v5 =>
  zm_bnd (zm_chk [23] [] v5) fun _ =>
  zm_ret v5
theorem ct_X2_letting {l : Launch} {Ω : zm_W} {K : zm_K} (H : zm_H Ω K) (a0 : zm_R) (a1 : Int32) : zm_Ct l Ω yX2_letting (ws_ yX2_letting cX2_letting 2 (Option.some (Jvm.ClassFile.FieldType.object "BoxSpans$Letting"))) 10 254 [va_rf a0, .int a1] zm_tvR (fn_X2_letting K a0 a1) := by
  refine zm_ct H.1 (by decide +kernel) (zl_le (zl_R (zl_I zl_nil)) (Nat.le_of_ble_eq_true rfl)) ?_
  intro p e R s m args below meth c n0 k0 C hX ls hl
  have hx := C.1
  have hb := C.2.1
  simp only [zg_I, zg_R, zg_nil] at hl
  have hl : lv_has ls 2 [(0, va_rf a0), (1, .int a1)] := hl
  refine rk_rf ?_
  unfold fn_X2_letting
  refine rk_of (fun _ _ _ _ _ k => lr_aload_n hx hb dX2_letting_0 rfl (lv_at hl 0 rfl) k) ?_
  refine rk_get zm_rdR_eq C (hc_X2 H) (k := 1) (Nat.le_of_ble_eq_true rfl) in_X2 q198 (fun _ h => h) dX2_letting_1 (fun v1 => ?_)
  refine rk_of (fun _ _ _ _ _ k => lv_iload_n hx hb dX2_letting_4 rfl (lv_at hl 1 rfl) k) ?_
  refine rk_callR hX (cl_dsp (fun ci => cl_case (cl_F (n := 1) (rest := []) (av := [.int a1]) C (hc_J2 H) (ct_J2_get H v1 a1) (lw_F q1064 q1067 q847 q105 q848) (zh_Fw H C (by decide) q1066 q1065 q1069 q1068 q309) (by decide +kernel) ⟨(Nat.le_of_ble_eq_true rfl), (Nat.le_of_ble_eq_true rfl)⟩ rfl hl.1 rfl (zw_le zw_nil (Nat.le_of_ble_eq_true rfl)) dX2_letting_5) (cl_case (cl_F (n := 1) (rest := []) (av := [.int a1]) C (hc_J4 H) (ct_J4_get H v1 a1) (lw_F q1064 q1070 q860 q107 q861) (zh_Fw H C (by decide) q1066 q1065 q1072 q1071 q336) (by decide +kernel) ⟨(Nat.le_of_ble_eq_true rfl), (Nat.le_of_ble_eq_true rfl)⟩ rfl hl.1 rfl (zw_le zw_nil (Nat.le_of_ble_eq_true rfl)) dX2_letting_5) (cl_fl)))) (fun v5 => ?_)
  refine rk_chk C q1094 (zc_cons (zc_s (hc_X6 H)) zc_nil) zp_nil dX2_letting_10 ?_
  exact rk_top (rf_aret C (Or.inl ⟨_, rfl⟩) dX2_letting_13)
theorem hd_X6_isIn : yX6_isIn.cls ≠ "java/lang/invoke/MethodHandle" ∧ yX6_isIn.cls ≠ "java/lang/invoke/VarHandle" ∧ (parseMethodDescriptor yX6_isIn.desc).map (fun d => d.parameters.length) = some 1 := by decide +kernel
noncomputable def fn_X6_isIn (K : zm_K) (a0 : zm_R) (a1 : Int32) : zm_M Int32 :=
  zm_bnd (zm_getI a0 23 3) fun v1 =>
  if v1 = 0 then
    zm_bnd (zm_getI a0 23 0) fun v8 =>
    if v8 = a1 then
      zm_ret 1
    else
      zm_ret 0
  else
    zm_ret 0
theorem ct_X6_isIn {l : Launch} {Ω : zm_W} {K : zm_K} (H : zm_H Ω K) (a0 : zm_R) (a1 : Int32) : zm_Ct l Ω yX6_isIn (ws_ yX6_isIn cX6_isIn 2 (Option.some Jvm.ClassFile.FieldType.boolean)) 1 64 [va_rf a0, .int a1] zm_tvI (fn_X6_isIn K a0 a1) := by
  refine zm_ct H.1 (by decide +kernel) (zl_le (zl_R (zl_I zl_nil)) (Nat.le_of_ble_eq_true rfl)) ?_
  intro p e R s m args below meth c n0 k0 C hX ls hl
  have hx := C.1
  have hb := C.2.1
  simp only [zg_I, zg_R, zg_nil] at hl
  have hl : lv_has ls 2 [(0, va_rf a0), (1, .int a1)] := hl
  refine rk_rf ?_
  unfold fn_X6_isIn
  refine rk_of (fun _ _ _ _ _ k => lr_aload_n hx hb dX6_isIn_0 rfl (lv_at hl 0 rfl) k) ?_
  refine rk_get zm_rdI_eq C (hc_X6 H) (k := 3) (Nat.le_of_ble_eq_true rfl) in_X6 q1323 (fun _ h => h) dX6_isIn_1 (fun v1 => ?_)
  refine rk_ite (fun _ _ _ _ _ k1 k2 => lv_if_ne (tgt := 19) hx hb dX6_isIn_4 (by decide) k2 k1) (fun c_4 => ?_) (fun c_4 => ?_)
  · refine rk_of (fun _ _ _ _ _ k => lr_aload_n hx hb dX6_isIn_7 rfl (lv_at hl 0 rfl) k) ?_
    refine rk_get zm_rdI_eq C (hc_X6 H) (k := 0) (Nat.le_of_ble_eq_true rfl) in_X6 q1320 (fun _ h => h) dX6_isIn_8 (fun v8 => ?_)
    refine rk_ite (fun _ _ _ _ _ k1 k2 => lv_iload_n hx hb dX6_isIn_11 rfl (lv_at hl 1 rfl) (lv_icmp_ne (tgt := 19) hx hb dX6_isIn_12 (by decide) k2 k1)) (fun c_12 => ?_) (fun c_12 => ?_)
    · refine rk_of (fun _ _ _ _ _ k => lv_iconst (v := 1) hx hb dX6_isIn_15 rfl (lv_goto (tgt := 20) hx hb dX6_isIn_16 (by decide) k)) ?_
      exact rk_top (rf_iret C rfl dX6_isIn_20)
    · refine rk_of (fun _ _ _ _ _ k => lv_iconst (v := 0) hx hb dX6_isIn_19 rfl k) ?_
      exact rk_top (rf_iret C rfl dX6_isIn_20)
  · refine rk_of (fun _ _ _ _ _ k => lv_iconst (v := 0) hx hb dX6_isIn_19 rfl k) ?_
    exact rk_top (rf_iret C rfl dX6_isIn_20)
theorem hd_X5_from : yX5_from.cls ≠ "java/lang/invoke/MethodHandle" ∧ yX5_from.cls ≠ "java/lang/invoke/VarHandle" ∧ (parseMethodDescriptor yX5_from.desc).map (fun d => d.parameters.length) = some 0 := by decide +kernel
noncomputable def fn_X5_from (K : zm_K) (a0 : zm_R) : zm_M Int32 :=
  zm_bnd (zm_getI a0 22 0) fun v1 =>
  zm_ret v1
theorem ct_X5_from {l : Launch} {Ω : zm_W} {K : zm_K} (H : zm_H Ω K) (a0 : zm_R) : zm_Ct l Ω yX5_from (ws_ yX5_from cX5_from 1 (Option.some Jvm.ClassFile.FieldType.int)) 1 64 [va_rf a0] zm_tvI (fn_X5_from K a0) := by
  refine zm_ct H.1 (by decide +kernel) (zl_le (zl_R zl_nil) (Nat.le_of_ble_eq_true rfl)) ?_
  intro p e R s m args below meth c n0 k0 C hX ls hl
  have hx := C.1
  have hb := C.2.1
  simp only [zg_R, zg_nil] at hl
  have hl : lv_has ls 1 [(0, va_rf a0)] := hl
  refine rk_rf ?_
  unfold fn_X5_from
  refine rk_of (fun _ _ _ _ _ k => lr_aload_n hx hb dX5_from_0 rfl (lv_at hl 0 rfl) k) ?_
  refine rk_get zm_rdI_eq C (hc_X5 H) (k := 0) (Nat.le_of_ble_eq_true rfl) in_X5 q822 (fun _ h => h) dX5_from_1 (fun v1 => ?_)
  exact rk_top (rf_iret C rfl dX5_from_4)
theorem hd_X6_from : yX6_from.cls ≠ "java/lang/invoke/MethodHandle" ∧ yX6_from.cls ≠ "java/lang/invoke/VarHandle" ∧ (parseMethodDescriptor yX6_from.desc).map (fun d => d.parameters.length) = some 0 := by decide +kernel
noncomputable def fn_X6_from (K : zm_K) (a0 : zm_R) : zm_M Int32 :=
  zm_bnd (zm_getR a0 23 2) fun v1 =>
  zm_bnd (zm_bnd (zm_is v1 22) fun _ => fn_X5_from K v1) fun v4 =>
  zm_ret v4
theorem ct_X6_from {l : Launch} {Ω : zm_W} {K : zm_K} (H : zm_H Ω K) (a0 : zm_R) : zm_Ct l Ω yX6_from (ws_ yX6_from cX6_from 1 (Option.some Jvm.ClassFile.FieldType.int)) 2 84 [va_rf a0] zm_tvI (fn_X6_from K a0) := by
  refine zm_ct H.1 (by decide +kernel) (zl_le (zl_R zl_nil) (Nat.le_of_ble_eq_true rfl)) ?_
  intro p e R s m args below meth c n0 k0 C hX ls hl
  have hx := C.1
  have hb := C.2.1
  simp only [zg_R, zg_nil] at hl
  have hl : lv_has ls 1 [(0, va_rf a0)] := hl
  refine rk_rf ?_
  unfold fn_X6_from
  refine rk_of (fun _ _ _ _ _ k => lr_aload_n hx hb dX6_from_0 rfl (lv_at hl 0 rfl) k) ?_
  refine rk_get zm_rdR_eq C (hc_X6 H) (k := 2) (Nat.le_of_ble_eq_true rfl) in_X6 q1322 (fun _ h => h) dX6_from_1 (fun v1 => ?_)
  refine rk_callI hX (cl_V (rest := []) (av := []) C (hc_X5 H) (ct_X5_from H v1) (lw_V q1010 q1011 q1012 q135 q1013) ⟨rfl, hd_X5_from⟩ ⟨(Nat.le_of_ble_eq_true rfl), (Nat.le_of_ble_eq_true rfl)⟩ rfl hl.1 rfl (zw_le zw_nil (Nat.le_of_ble_eq_true rfl)) dX6_from_4) (fun v4 => ?_)
  exact rk_top (rf_iret C rfl dX6_from_7)
theorem hd_X8_from : yX8_from.cls ≠ "java/lang/invoke/MethodHandle" ∧ yX8_from.cls ≠ "java/lang/invoke/VarHandle" ∧ (parseMethodDescriptor yX8_from.desc).map (fun d => d.parameters.length) = some 0 := by decide +kernel
noncomputable def fn_X8_from (K : zm_K) (a0 : zm_R) : zm_M Int32 :=
  zm_bnd (zm_getR a0 24 1) fun v1 =>
  zm_bnd (zm_bnd (zm_is v1 22) fun _ => fn_X5_from K v1) fun v4 =>
  zm_ret v4
theorem ct_X8_from {l : Launch} {Ω : zm_W} {K : zm_K} (H : zm_H Ω K) (a0 : zm_R) : zm_Ct l Ω yX8_from (ws_ yX8_from cX8_from 1 (Option.some Jvm.ClassFile.FieldType.int)) 2 84 [va_rf a0] zm_tvI (fn_X8_from K a0) := by
  refine zm_ct H.1 (by decide +kernel) (zl_le (zl_R zl_nil) (Nat.le_of_ble_eq_true rfl)) ?_
  intro p e R s m args below meth c n0 k0 C hX ls hl
  have hx := C.1
  have hb := C.2.1
  simp only [zg_R, zg_nil] at hl
  have hl : lv_has ls 1 [(0, va_rf a0)] := hl
  refine rk_rf ?_
  unfold fn_X8_from
  refine rk_of (fun _ _ _ _ _ k => lr_aload_n hx hb dX8_from_0 rfl (lv_at hl 0 rfl) k) ?_
  refine rk_get zm_rdR_eq C (hc_X8 H) (k := 1) (Nat.le_of_ble_eq_true rfl) in_X8 q1616 (fun _ h => h) dX8_from_1 (fun v1 => ?_)
  refine rk_callI hX (cl_V (rest := []) (av := []) C (hc_X5 H) (ct_X5_from H v1) (lw_V q1024 q1011 q1012 q135 q1013) ⟨rfl, hd_X5_from⟩ ⟨(Nat.le_of_ble_eq_true rfl), (Nat.le_of_ble_eq_true rfl)⟩ rfl hl.1 rfl (zw_le zw_nil (Nat.le_of_ble_eq_true rfl)) dX8_from_4) (fun v4 => ?_)
  exact rk_top (rf_iret C rfl dX8_from_7)
theorem hd_X6_to : yX6_to.cls ≠ "java/lang/invoke/MethodHandle" ∧ yX6_to.cls ≠ "java/lang/invoke/VarHandle" ∧ (parseMethodDescriptor yX6_to.desc).map (fun d => d.parameters.length) = some 0 := by decide +kernel
noncomputable def fn_X6_to (K : zm_K) (a0 : zm_R) : zm_M Int32 :=
  zm_bnd (zm_getR a0 23 2) fun v1 =>
  zm_bnd (zm_bnd (zm_is v1 22) fun _ => fn_X5_to K v1) fun v4 =>
  zm_ret v4
theorem ct_X6_to {l : Launch} {Ω : zm_W} {K : zm_K} (H : zm_H Ω K) (a0 : zm_R) : zm_Ct l Ω yX6_to (ws_ yX6_to cX6_to 1 (Option.some Jvm.ClassFile.FieldType.int)) 2 84 [va_rf a0] zm_tvI (fn_X6_to K a0) := by
  refine zm_ct H.1 (by decide +kernel) (zl_le (zl_R zl_nil) (Nat.le_of_ble_eq_true rfl)) ?_
  intro p e R s m args below meth c n0 k0 C hX ls hl
  have hx := C.1
  have hb := C.2.1
  simp only [zg_R, zg_nil] at hl
  have hl : lv_has ls 1 [(0, va_rf a0)] := hl
  refine rk_rf ?_
  unfold fn_X6_to
  refine rk_of (fun _ _ _ _ _ k => lr_aload_n hx hb dX6_to_0 rfl (lv_at hl 0 rfl) k) ?_
  refine rk_get zm_rdR_eq C (hc_X6 H) (k := 2) (Nat.le_of_ble_eq_true rfl) in_X6 q1322 (fun _ h => h) dX6_to_1 (fun v1 => ?_)
  refine rk_callI hX (cl_V (rest := []) (av := []) C (hc_X5 H) (ct_X5_to H v1) (lw_V q1034 q830 q831 q135 q832) ⟨rfl, hd_X5_to⟩ ⟨(Nat.le_of_ble_eq_true rfl), (Nat.le_of_ble_eq_true rfl)⟩ rfl hl.1 rfl (zw_le zw_nil (Nat.le_of_ble_eq_true rfl)) dX6_to_4) (fun v4 => ?_)
  exact rk_top (rf_iret C rfl dX6_to_7)
theorem hd_X8_to : yX8_to.cls ≠ "java/lang/invoke/MethodHandle" ∧ yX8_to.cls ≠ "java/lang/invoke/VarHandle" ∧ (parseMethodDescriptor yX8_to.desc).map (fun d => d.parameters.length) = some 0 := by decide +kernel
noncomputable def fn_X8_to (K : zm_K) (a0 : zm_R) : zm_M Int32 :=
  zm_bnd (zm_getR a0 24 1) fun v1 =>
  zm_bnd (zm_bnd (zm_is v1 22) fun _ => fn_X5_to K v1) fun v4 =>
  zm_ret v4
theorem ct_X8_to {l : Launch} {Ω : zm_W} {K : zm_K} (H : zm_H Ω K) (a0 : zm_R) : zm_Ct l Ω yX8_to (ws_ yX8_to cX8_to 1 (Option.some Jvm.ClassFile.FieldType.int)) 2 84 [va_rf a0] zm_tvI (fn_X8_to K a0) := by
  refine zm_ct H.1 (by decide +kernel) (zl_le (zl_R zl_nil) (Nat.le_of_ble_eq_true rfl)) ?_
  intro p e R s m args below meth c n0 k0 C hX ls hl
  have hx := C.1
  have hb := C.2.1
  simp only [zg_R, zg_nil] at hl
  have hl : lv_has ls 1 [(0, va_rf a0)] := hl
  refine rk_rf ?_
  unfold fn_X8_to
  refine rk_of (fun _ _ _ _ _ k => lr_aload_n hx hb dX8_to_0 rfl (lv_at hl 0 rfl) k) ?_
  refine rk_get zm_rdR_eq C (hc_X8 H) (k := 1) (Nat.le_of_ble_eq_true rfl) in_X8 q1616 (fun _ h => h) dX8_to_1 (fun v1 => ?_)
  refine rk_callI hX (cl_V (rest := []) (av := []) C (hc_X5 H) (ct_X5_to H v1) (lw_V q1043 q830 q831 q135 q832) ⟨rfl, hd_X5_to⟩ ⟨(Nat.le_of_ble_eq_true rfl), (Nat.le_of_ble_eq_true rfl)⟩ rfl hl.1 rfl (zw_le zw_nil (Nat.le_of_ble_eq_true rfl)) dX8_to_4) (fun v4 => ?_)
  exact rk_top (rf_iret C rfl dX8_to_7)
theorem hd_X7_areTogether : yX7_areTogether.cls ≠ "java/lang/invoke/MethodHandle" ∧ yX7_areTogether.cls ≠ "java/lang/invoke/VarHandle" ∧ (parseMethodDescriptor yX7_areTogether.desc).map (fun d => d.parameters.length) = some 2 := by decide +kernel
noncomputable def fn_X7_areTogether (K : zm_K) (a0 : zm_R) (a1 : zm_R) : zm_M Int32 :=
  zm_bnd (zm_bnd (zm_cls a0) fun ci => if ci = 23 then fn_X6_from K a0 else if ci = 22 then fn_X5_from K a0 else if ci = 24 then fn_X8_from K a0 else zm_fl) fun v1 =>
  zm_bnd (zm_bnd (zm_cls a1) fun ci => if ci = 23 then fn_X6_to K a1 else if ci = 22 then fn_X5_to K a1 else if ci = 24 then fn_X8_to K a1 else zm_fl) fun v7 =>
  if v7 ≤ v1 then
    zm_ret 0
  else
    zm_bnd (zm_bnd (zm_cls a1) fun ci => if ci = 23 then fn_X6_from K a1 else if ci = 22 then fn_X5_from K a1 else if ci = 24 then fn_X8_from K a1 else zm_fl) fun v16 =>
    zm_bnd (zm_bnd (zm_cls a0) fun ci => if ci = 23 then fn_X6_to K a0 else if ci = 22 then fn_X5_to K a0 else if ci = 24 then fn_X8_to K a0 else zm_fl) fun v22 =>
    if v22 ≤ v16 then
      zm_ret 0
    else
      zm_ret 1
theorem ct_X7_areTogether {l : Launch} {Ω : zm_W} {K : zm_K} (H : zm_H Ω K) (a0 : zm_R) (a1 : zm_R) : zm_Ct l Ω yX7_areTogether (ws_ yX7_areTogether cX7_areTogether 2 (Option.some Jvm.ClassFile.FieldType.boolean)) 3 104 [va_rf a0, va_rf a1] zm_tvI (fn_X7_areTogether K a0 a1) := by
  refine zm_ct H.1 (by decide +kernel) (zl_le (zl_R (zl_R zl_nil)) (Nat.le_of_ble_eq_true rfl)) ?_
  intro p e R s m args below meth c n0 k0 C hX ls hl
  have hx := C.1
  have hb := C.2.1
  simp only [zg_R, zg_nil] at hl
  have hl : lv_has ls 2 [(0, va_rf a0), (1, va_rf a1)] := hl
  refine rk_rf ?_
  unfold fn_X7_areTogether
  refine rk_of (fun _ _ _ _ _ k => lr_aload_n hx hb dX7_areTogether_0 rfl (lv_at hl 0 rfl) k) ?_
  refine rk_callI hX (cl_dsp (fun ci => cl_case (cl_F (n := 0) (rest := []) (av := []) C (hc_X6 H) (ct_X6_from H a0) (lw_F q1001 q1005 q1007 q137 q1009) (zh_Fw H C (by decide) q1003 q1002 q1008 q1006 q1004) (by decide +kernel) ⟨(Nat.le_of_ble_eq_true rfl), (Nat.le_of_ble_eq_true rfl)⟩ rfl hl.1 rfl (zw_le zw_nil (Nat.le_of_ble_eq_true rfl)) dX7_areTogether_1) (cl_case (cl_F (n := 0) (rest := []) (av := []) C (hc_X5 H) (ct_X5_from H a0) (lw_F q1001 q1015 q1011 q135 q1013) (zh_Fw H C (by decide) q1003 q1002 q1017 q1016 q1014) (by decide +kernel) ⟨(Nat.le_of_ble_eq_true rfl), (Nat.le_of_ble_eq_true rfl)⟩ rfl hl.1 rfl (zw_le zw_nil (Nat.le_of_ble_eq_true rfl)) dX7_areTogether_1) (cl_case (cl_F (n := 0) (rest := []) (av := []) C (hc_X8 H) (ct_X8_from H a0) (lw_F q1001 q1019 q1021 q141 q1023) (zh_Fw H C (by decide) q1003 q1002 q1022 q1020 q1018) (by decide +kernel) ⟨(Nat.le_of_ble_eq_true rfl), (Nat.le_of_ble_eq_true rfl)⟩ rfl hl.1 rfl (zw_le zw_nil (Nat.le_of_ble_eq_true rfl)) dX7_areTogether_1) (cl_fl))))) (fun v1 => ?_)
  refine rk_of (fun _ _ _ _ _ k => lr_aload_n hx hb dX7_areTogether_6 rfl (lv_at hl 1 rfl) k) ?_
  refine rk_callI hX (cl_dsp (fun ci => cl_case (cl_F (n := 0) (rest := [.int v1]) (av := []) C (hc_X6 H) (ct_X6_to H a1) (lw_F q1026 q1029 q1031 q137 q1033) (zh_Fw H C (by decide) q1028 q1027 q1032 q1030 q1004) (by decide +kernel) ⟨(Nat.le_of_ble_eq_true rfl), (Nat.le_of_ble_eq_true rfl)⟩ rfl hl.1 rfl (zw_le (zw_I zw_nil) (Nat.le_of_ble_eq_true rfl)) dX7_areTogether_7) (cl_case (cl_F (n := 0) (rest := [.int v1]) (av := []) C (hc_X5 H) (ct_X5_to H a1) (lw_F q1026 q1035 q830 q135 q832) (zh_Fw H C (by decide) q1028 q1027 q1037 q1036 q1014) (by decide +kernel) ⟨(Nat.le_of_ble_eq_true rfl), (Nat.le_of_ble_eq_true rfl)⟩ rfl hl.1 rfl (zw_le (zw_I zw_nil) (Nat.le_of_ble_eq_true rfl)) dX7_areTogether_7) (cl_case (cl_F (n := 0) (rest := [.int v1]) (av := []) C (hc_X8 H) (ct_X8_to H a1) (lw_F q1026 q1038 q1040 q141 q1042) (zh_Fw H C (by decide) q1028 q1027 q1041 q1039 q1018) (by decide +kernel) ⟨(Nat.le_of_ble_eq_true rfl), (Nat.le_of_ble_eq_true rfl)⟩ rfl hl.1 rfl (zw_le (zw_I zw_nil) (Nat.le_of_ble_eq_true rfl)) dX7_areTogether_7) (cl_fl))))) (fun v7 => ?_)
  refine rk_ite (fun _ _ _ _ _ k1 k2 => lv_icmp_ge (tgt := 34) hx hb dX7_areTogether_12 (by decide) k1 k2) (fun c_12 => ?_) (fun c_12 => ?_)
  · refine rk_of (fun _ _ _ _ _ k => lv_iconst (v := 0) hx hb dX7_areTogether_34 rfl k) ?_
    exact rk_top (rf_iret C rfl dX7_areTogether_35)
  · refine rk_of (fun _ _ _ _ _ k => lr_aload_n hx hb dX7_areTogether_15 rfl (lv_at hl 1 rfl) k) ?_
    refine rk_callI hX (cl_dsp (fun ci => cl_case (cl_F (n := 0) (rest := []) (av := []) C (hc_X6 H) (ct_X6_from H a1) (lw_F q1001 q1005 q1007 q137 q1009) (zh_Fw H C (by decide) q1003 q1002 q1008 q1006 q1004) (by decide +kernel) ⟨(Nat.le_of_ble_eq_true rfl), (Nat.le_of_ble_eq_true rfl)⟩ rfl hl.1 rfl (zw_le zw_nil (Nat.le_of_ble_eq_true rfl)) dX7_areTogether_16) (cl_case (cl_F (n := 0) (rest := []) (av := []) C (hc_X5 H) (ct_X5_from H a1) (lw_F q1001 q1015 q1011 q135 q1013) (zh_Fw H C (by decide) q1003 q1002 q1017 q1016 q1014) (by decide +kernel) ⟨(Nat.le_of_ble_eq_true rfl), (Nat.le_of_ble_eq_true rfl)⟩ rfl hl.1 rfl (zw_le zw_nil (Nat.le_of_ble_eq_true rfl)) dX7_areTogether_16) (cl_case (cl_F (n := 0) (rest := []) (av := []) C (hc_X8 H) (ct_X8_from H a1) (lw_F q1001 q1019 q1021 q141 q1023) (zh_Fw H C (by decide) q1003 q1002 q1022 q1020 q1018) (by decide +kernel) ⟨(Nat.le_of_ble_eq_true rfl), (Nat.le_of_ble_eq_true rfl)⟩ rfl hl.1 rfl (zw_le zw_nil (Nat.le_of_ble_eq_true rfl)) dX7_areTogether_16) (cl_fl))))) (fun v16 => ?_)
    refine rk_of (fun _ _ _ _ _ k => lr_aload_n hx hb dX7_areTogether_21 rfl (lv_at hl 0 rfl) k) ?_
    refine rk_callI hX (cl_dsp (fun ci => cl_case (cl_F (n := 0) (rest := [.int v16]) (av := []) C (hc_X6 H) (ct_X6_to H a0) (lw_F q1026 q1029 q1031 q137 q1033) (zh_Fw H C (by decide) q1028 q1027 q1032 q1030 q1004) (by decide +kernel) ⟨(Nat.le_of_ble_eq_true rfl), (Nat.le_of_ble_eq_true rfl)⟩ rfl hl.1 rfl (zw_le (zw_I zw_nil) (Nat.le_of_ble_eq_true rfl)) dX7_areTogether_22) (cl_case (cl_F (n := 0) (rest := [.int v16]) (av := []) C (hc_X5 H) (ct_X5_to H a0) (lw_F q1026 q1035 q830 q135 q832) (zh_Fw H C (by decide) q1028 q1027 q1037 q1036 q1014) (by decide +kernel) ⟨(Nat.le_of_ble_eq_true rfl), (Nat.le_of_ble_eq_true rfl)⟩ rfl hl.1 rfl (zw_le (zw_I zw_nil) (Nat.le_of_ble_eq_true rfl)) dX7_areTogether_22) (cl_case (cl_F (n := 0) (rest := [.int v16]) (av := []) C (hc_X8 H) (ct_X8_to H a0) (lw_F q1026 q1038 q1040 q141 q1042) (zh_Fw H C (by decide) q1028 q1027 q1041 q1039 q1018) (by decide +kernel) ⟨(Nat.le_of_ble_eq_true rfl), (Nat.le_of_ble_eq_true rfl)⟩ rfl hl.1 rfl (zw_le (zw_I zw_nil) (Nat.le_of_ble_eq_true rfl)) dX7_areTogether_22) (cl_fl))))) (fun v22 => ?_)
    refine rk_ite (fun _ _ _ _ _ k1 k2 => lv_icmp_ge (tgt := 34) hx hb dX7_areTogether_27 (by decide) k1 k2) (fun c_27 => ?_) (fun c_27 => ?_)
    · refine rk_of (fun _ _ _ _ _ k => lv_iconst (v := 0) hx hb dX7_areTogether_34 rfl k) ?_
      exact rk_top (rf_iret C rfl dX7_areTogether_35)
    · refine rk_of (fun _ _ _ _ _ k => lv_iconst (v := 1) hx hb dX7_areTogether_30 rfl (lv_goto (tgt := 35) hx hb dX7_areTogether_31 (by decide) k)) ?_
      exact rk_top (rf_iret C rfl dX7_areTogether_35)
theorem hd_X2_overlapping : yX2_overlapping.cls ≠ "java/lang/invoke/MethodHandle" ∧ yX2_overlapping.cls ≠ "java/lang/invoke/VarHandle" ∧ (parseMethodDescriptor yX2_overlapping.desc).map (fun d => d.parameters.length) = some 3 := by decide +kernel
noncomputable def fn_X2_overlapping_6 (K : zm_K) (p0 : zm_R) (p1 : Int32) (p2 : zm_R) (p3 : Int32) : Nat → Int32 → Int32 → zm_M (Int32)
  | 0, _, _ => zm_fl
  | n + 1, x4, x5 =>
    zm_bnd (zm_getR p0 19 1) fun v9 =>
    zm_bnd (zm_bnd (zm_cls v9) fun ci => if ci = 0 then fn_J2_size K v9 else if ci = 1 then fn_J4_size K v9 else zm_fl) fun v12 =>
    if v12 ≤ x5 then
      zm_ret x4
    else
      zm_bnd (α := Int32) (
          if x5 = p3 then
            zm_ret 0
          else
            zm_bnd (zm_bnd (zm_is p0 19) fun _ => fn_X2_letting K p0 x5) fun v29 =>
            zm_bnd (zm_bnd (zm_is v29 23) fun _ => fn_X6_isIn K v29 p1) fun v33 =>
            if v33 = 0 then
              zm_ret 0
            else
              zm_bnd (zm_bnd (zm_is p0 19) fun _ => fn_X2_letting K p0 x5) fun v42 =>
              zm_bnd (fn_X7_areTogether K v42 p2) fun v46 =>
              if v46 = 0 then
                zm_ret 0
              else
                zm_ret 1
        ) fun b57 =>
      zm_bnd (α := Int32) (
          if b57 = 0 then
            zm_ret x4
          else
            if x4 = (-1) then
              zm_ret x5
            else
              zm_bnd (zm_bnd (zm_is p0 19) fun _ => fn_X2_letting K p0 x5) fun v73 =>
              zm_bnd (zm_bnd (zm_is v73 23) fun _ => fn_X6_from K v73) fun v76 =>
              zm_bnd (zm_bnd (zm_is p0 19) fun _ => fn_X2_letting K p0 x4) fun v82 =>
              zm_bnd (zm_bnd (zm_is v82 23) fun _ => fn_X6_from K v82) fun v85 =>
              if v85 ≤ v76 then
                zm_ret x4
              else
                zm_ret x5
        ) fun b98 =>
      fn_X2_overlapping_6 K p0 p1 p2 p3 n b98 (x5 + 1)
noncomputable def fn_X2_overlapping (K : zm_K) (a0 : zm_R) (a1 : Int32) (a2 : zm_R) (a3 : Int32) : zm_M Int32 :=
  zm_bnd (α := Int32) (fn_X2_overlapping_6 K a0 a1 a2 a3 zm_N (-1) 0) fun b106 =>
  zm_ret b106
theorem rf_X2_overlapping_6 (H : zm_H Ω K) (C : zm_C p l R s m args meth c Ω lw_all cX2_overlapping yX2_overlapping.cls yX2_overlapping.name 7 11 275 (Option.some Jvm.ClassFile.FieldType.int)) (hX : zm_XO p l e R s m args below meth c Ω n0 k0 (zm_QFs below args s Ω n0 k0 zm_tvI)) (p0 : zm_R) (p1 : Int32) (p2 : zm_R) (p3 : Int32) : ∀ (n : Nat) (x4 : Int32) (x5 : Int32) (J : (Int32) → zm_M Int32) (ls : Array Slot), lv_has ls 7 [(0, va_rf p0), (1, .int p1), (2, va_rf p2), (3, .int p3), (4, .int x4), (5, .int x5)] → (∀ (b : Int32) (ls : Array Slot), lv_has ls 7 [(4, .int b)] → zm_RK p l e R s m args below meth c Ω n0 k0 (zm_QFs below args s Ω n0 k0 zm_tvI) (zm_ret b) J (F0 m 106 ls [])) → zm_RK p l e R s m args below meth c Ω n0 k0 (zm_QFs below args s Ω n0 k0 zm_tvI) (fn_X2_overlapping_6 K p0 p1 p2 p3 n x4 x5) J (F0 m 6 ls []) := by
  have hx := C.1
  have hb := C.2.1
  intro n
  induction n with
  | zero => intro x4 x5 J ls hl hJ; exact rk_fl
  | succ n ih =>
    intro x4 x5 J ls hl hJ
    unfold fn_X2_overlapping_6
    refine rk_of (fun _ _ _ _ _ k => lv_iload hx hb dX2_overlapping_6 (lv_at hl 5 rfl) (lr_aload_n hx hb dX2_overlapping_8 rfl (lv_at hl 0 rfl) k)) ?_
    refine rk_get zm_rdR_eq C (hc_X2 H) (k := 1) (Nat.le_of_ble_eq_true rfl) in_X2 q198 (fun _ h => h) dX2_overlapping_9 (fun v9 => ?_)
    refine rk_callI hX (cl_dsp (fun ci => cl_case (cl_F (n := 0) (rest := [.int x5]) (av := []) C (hc_J2 H) (ct_J2_size H v9) (lw_F q1054 q1057 q752 q105 q753) (zh_Fw H C (by decide) q1056 q1055 q1059 q1058 q309) (by decide +kernel) ⟨(Nat.le_of_ble_eq_true rfl), (Nat.le_of_ble_eq_true rfl)⟩ rfl hl.1 rfl (zw_le (zw_I zw_nil) (Nat.le_of_ble_eq_true rfl)) dX2_overlapping_12) (cl_case (cl_F (n := 0) (rest := [.int x5]) (av := []) C (hc_J4 H) (ct_J4_size H v9) (lw_F q1054 q1060 q755 q107 q756) (zh_Fw H C (by decide) q1056 q1055 q1062 q1061 q336) (by decide +kernel) ⟨(Nat.le_of_ble_eq_true rfl), (Nat.le_of_ble_eq_true rfl)⟩ rfl hl.1 rfl (zw_le (zw_I zw_nil) (Nat.le_of_ble_eq_true rfl)) dX2_overlapping_12) (cl_fl)))) (fun v12 => ?_)
    refine rk_ite (fun _ _ _ _ _ k1 k2 => lv_icmp_ge (tgt := 106) hx hb dX2_overlapping_17 (by decide) k1 k2) (fun c_17 => ?_) (fun c_17 => ?_)
    · exact hJ x4 ls (lv_sub hl [4] rfl)
    · refine rk_of (fun _ _ _ _ _ k => lv_iload hx hb dX2_overlapping_20 (lv_at hl 5 rfl) (lv_iload_n hx hb dX2_overlapping_22 rfl (lv_at hl 3 rfl) k)) ?_
      refine rk_join (β := Int32) (fun (b57 : Int32) ls => lv_has ls 7 [(0, va_rf p0), (1, .int p1), (2, va_rf p2), (3, .int p3), (4, .int x4), (5, .int x5)]) (fun (b57 : Int32) ls => F0 m 57 ls [.int b57]) (fun b57 ls hl => ?_) (fun hJ57 => ?_)
      · refine rk_ofs (fun _ _ _ _ _ k => lr_istore hx hb dX2_overlapping_57 hl (Nat.le_of_ble_eq_true rfl) [0, 1, 2, 3, 4, 5] rfl ⟨trivial, ⟨trivial, ⟨trivial, ⟨trivial, ⟨trivial, ⟨rfl, trivial⟩⟩⟩⟩⟩⟩ k) (fun ls hl => ?_)
        refine rk_of (fun _ _ _ _ _ k => lv_iload hx hb dX2_overlapping_59 (lv_at hl 0 rfl) k) ?_
        refine rk_join (β := Int32) (fun (b98 : Int32) ls => lv_has ls 7 [(0, va_rf p0), (1, .int p1), (2, va_rf p2), (3, .int p3), (5, .int x5)]) (fun (b98 : Int32) ls => F0 m 98 ls [.int b98]) (fun b98 ls hl => ?_) (fun hJ98 => ?_)
        · refine rk_ofs (fun _ _ _ _ _ k => lr_istore hx hb dX2_overlapping_98 hl (Nat.le_of_ble_eq_true rfl) [0, 1, 2, 3, 4] rfl ⟨trivial, ⟨trivial, ⟨trivial, ⟨rfl, ⟨trivial, trivial⟩⟩⟩⟩⟩ k) (fun ls hl => ?_)
          refine rk_ofs (fun _ _ _ _ _ k => lr_iinc (v := x5 + 1) hx hb dX2_overlapping_100 hl (k := 5) rfl rfl (Nat.le_of_ble_eq_true rfl) [0, 1, 2, 3, 4] rfl ⟨rfl, ⟨trivial, ⟨trivial, ⟨trivial, ⟨trivial, trivial⟩⟩⟩⟩⟩ k) (fun ls hl => ?_)
          refine rk_of (fun _ _ _ _ _ k => lv_goto (tgt := 6) hx hb dX2_overlapping_103 (by decide) k) ?_
          exact ih b98 (x5 + 1) J ls (lv_sub hl [2, 3, 4, 5, 1, 0] rfl) hJ
        · refine rk_ite (fun _ _ _ _ _ k1 k2 => lv_if_eq (tgt := 96) hx hb dX2_overlapping_61 (by decide) k1 k2) (fun c_61 => ?_) (fun c_61 => ?_)
          · refine rk_of (fun _ _ _ _ _ k => lv_iload hx hb dX2_overlapping_96 (lv_at hl 5 rfl) k) ?_
            exact hJ98 x4 ls (lv_sub hl [1, 2, 3, 4, 6] rfl)
          · refine rk_ite (fun _ _ _ _ _ k1 k2 => lv_iload hx hb dX2_overlapping_64 (lv_at hl 5 rfl) (lv_iconst (v := (-1)) hx hb dX2_overlapping_66 rfl (lv_icmp_eq (tgt := 91) hx hb dX2_overlapping_67 (by decide) k1 k2))) (fun c_67 => ?_) (fun c_67 => ?_)
            · refine rk_of (fun _ _ _ _ _ k => lv_iload hx hb dX2_overlapping_91 (lv_at hl 6 rfl) (lv_goto (tgt := 98) hx hb dX2_overlapping_93 (by decide) k)) ?_
              exact hJ98 x5 ls (lv_sub hl [1, 2, 3, 4, 6] rfl)
            · refine rk_of (fun _ _ _ _ _ k => lr_aload_n hx hb dX2_overlapping_70 rfl (lv_at hl 1 rfl) (lv_iload hx hb dX2_overlapping_71 (lv_at hl 6 rfl) k)) ?_
              refine rk_callR hX (cl_V (rest := []) (av := [.int x5]) C (hc_X2 H) (ct_X2_letting H p0 x5) (lw_V q1090 q1091 q1092 q102 q1093) ⟨rfl, hd_X2_letting⟩ ⟨(Nat.le_of_ble_eq_true rfl), (Nat.le_of_ble_eq_true rfl)⟩ rfl hl.1 rfl (zw_le zw_nil (Nat.le_of_ble_eq_true rfl)) dX2_overlapping_73) (fun v73 => ?_)
              refine rk_callI hX (cl_V (rest := []) (av := []) C (hc_X6 H) (ct_X6_from H v73) (lw_V q1440 q1007 q3082 q137 q1009) ⟨rfl, hd_X6_from⟩ ⟨(Nat.le_of_ble_eq_true rfl), (Nat.le_of_ble_eq_true rfl)⟩ rfl hl.1 rfl (zw_le zw_nil (Nat.le_of_ble_eq_true rfl)) dX2_overlapping_76) (fun v76 => ?_)
              refine rk_of (fun _ _ _ _ _ k => lr_aload_n hx hb dX2_overlapping_79 rfl (lv_at hl 1 rfl) (lv_iload hx hb dX2_overlapping_80 (lv_at hl 5 rfl) k)) ?_
              refine rk_callR hX (cl_V (rest := [.int v76]) (av := [.int x4]) C (hc_X2 H) (ct_X2_letting H p0 x4) (lw_V q1090 q1091 q1092 q102 q1093) ⟨rfl, hd_X2_letting⟩ ⟨(Nat.le_of_ble_eq_true rfl), (Nat.le_of_ble_eq_true rfl)⟩ rfl hl.1 rfl (zw_le (zw_I zw_nil) (Nat.le_of_ble_eq_true rfl)) dX2_overlapping_82) (fun v82 => ?_)
              refine rk_callI hX (cl_V (rest := [.int v76]) (av := []) C (hc_X6 H) (ct_X6_from H v82) (lw_V q1440 q1007 q3082 q137 q1009) ⟨rfl, hd_X6_from⟩ ⟨(Nat.le_of_ble_eq_true rfl), (Nat.le_of_ble_eq_true rfl)⟩ rfl hl.1 rfl (zw_le (zw_I zw_nil) (Nat.le_of_ble_eq_true rfl)) dX2_overlapping_85) (fun v85 => ?_)
              refine rk_ite (fun _ _ _ _ _ k1 k2 => lv_icmp_ge (tgt := 96) hx hb dX2_overlapping_88 (by decide) k1 k2) (fun c_88 => ?_) (fun c_88 => ?_)
              · refine rk_of (fun _ _ _ _ _ k => lv_iload hx hb dX2_overlapping_96 (lv_at hl 5 rfl) k) ?_
                exact hJ98 x4 ls (lv_sub hl [1, 2, 3, 4, 6] rfl)
              · refine rk_of (fun _ _ _ _ _ k => lv_iload hx hb dX2_overlapping_91 (lv_at hl 6 rfl) (lv_goto (tgt := 98) hx hb dX2_overlapping_93 (by decide) k)) ?_
                exact hJ98 x5 ls (lv_sub hl [1, 2, 3, 4, 6] rfl)
      · refine rk_ite (fun _ _ _ _ _ k1 k2 => lv_icmp_eq (tgt := 56) hx hb dX2_overlapping_23 (by decide) k1 k2) (fun c_23 => ?_) (fun c_23 => ?_)
        · refine rk_of (fun _ _ _ _ _ k => lv_iconst (v := 0) hx hb dX2_overlapping_56 rfl k) ?_
          exact hJ57 0 ls (lv_sub hl [0, 1, 2, 3, 4, 5] rfl)
        · refine rk_of (fun _ _ _ _ _ k => lr_aload_n hx hb dX2_overlapping_26 rfl (lv_at hl 0 rfl) (lv_iload hx hb dX2_overlapping_27 (lv_at hl 5 rfl) k)) ?_
          refine rk_callR hX (cl_V (rest := []) (av := [.int x5]) C (hc_X2 H) (ct_X2_letting H p0 x5) (lw_V q1090 q1091 q1092 q102 q1093) ⟨rfl, hd_X2_letting⟩ ⟨(Nat.le_of_ble_eq_true rfl), (Nat.le_of_ble_eq_true rfl)⟩ rfl hl.1 rfl (zw_le zw_nil (Nat.le_of_ble_eq_true rfl)) dX2_overlapping_29) (fun v29 => ?_)
          refine rk_of (fun _ _ _ _ _ k => lv_iload_n hx hb dX2_overlapping_32 rfl (lv_at hl 1 rfl) k) ?_
          refine rk_callI hX (cl_V (rest := []) (av := [.int p1]) C (hc_X6 H) (ct_X6_isIn H v29 p1) (lw_V q1095 q1096 q1097 q137 q1098) ⟨rfl, hd_X6_isIn⟩ ⟨(Nat.le_of_ble_eq_true rfl), (Nat.le_of_ble_eq_true rfl)⟩ rfl hl.1 rfl (zw_le zw_nil (Nat.le_of_ble_eq_true rfl)) dX2_overlapping_33) (fun v33 => ?_)
          refine rk_ite (fun _ _ _ _ _ k1 k2 => lv_if_eq (tgt := 56) hx hb dX2_overlapping_36 (by decide) k1 k2) (fun c_36 => ?_) (fun c_36 => ?_)
          · refine rk_of (fun _ _ _ _ _ k => lv_iconst (v := 0) hx hb dX2_overlapping_56 rfl k) ?_
            exact hJ57 0 ls (lv_sub hl [0, 1, 2, 3, 4, 5] rfl)
          · refine rk_of (fun _ _ _ _ _ k => lr_aload_n hx hb dX2_overlapping_39 rfl (lv_at hl 0 rfl) (lv_iload hx hb dX2_overlapping_40 (lv_at hl 5 rfl) k)) ?_
            refine rk_callR hX (cl_V (rest := []) (av := [.int x5]) C (hc_X2 H) (ct_X2_letting H p0 x5) (lw_V q1090 q1091 q1092 q102 q1093) ⟨rfl, hd_X2_letting⟩ ⟨(Nat.le_of_ble_eq_true rfl), (Nat.le_of_ble_eq_true rfl)⟩ rfl hl.1 rfl (zw_le zw_nil (Nat.le_of_ble_eq_true rfl)) dX2_overlapping_42) (fun v42 => ?_)
            refine rk_of (fun _ _ _ _ _ k => lr_aload_n hx hb dX2_overlapping_45 rfl (lv_at hl 2 rfl) k) ?_
            refine rk_callI hX (cl_S (rest := []) C (ct_X7_areTogether H v42 p2) (lw_S q1437 q1438 q140 q1439) hd_X7_areTogether ⟨(Nat.le_of_ble_eq_true rfl), (Nat.le_of_ble_eq_true rfl)⟩ rfl hl.1 rfl (zw_le zw_nil (Nat.le_of_ble_eq_true rfl)) dX2_overlapping_46) (fun v46 => ?_)
            refine rk_ite (fun _ _ _ _ _ k1 k2 => lv_if_eq (tgt := 56) hx hb dX2_overlapping_49 (by decide) k1 k2) (fun c_49 => ?_) (fun c_49 => ?_)
            · refine rk_of (fun _ _ _ _ _ k => lv_iconst (v := 0) hx hb dX2_overlapping_56 rfl k) ?_
              exact hJ57 0 ls (lv_sub hl [0, 1, 2, 3, 4, 5] rfl)
            · refine rk_of (fun _ _ _ _ _ k => lv_iconst (v := 1) hx hb dX2_overlapping_52 rfl (lv_goto (tgt := 57) hx hb dX2_overlapping_53 (by decide) k)) ?_
              exact hJ57 1 ls (lv_sub hl [0, 1, 2, 3, 4, 5] rfl)
theorem ct_X2_overlapping {l : Launch} {Ω : zm_W} {K : zm_K} (H : zm_H Ω K) (a0 : zm_R) (a1 : Int32) (a2 : zm_R) (a3 : Int32) : zm_Ct l Ω yX2_overlapping (ws_ yX2_overlapping cX2_overlapping 7 (Option.some Jvm.ClassFile.FieldType.int)) 11 275 [va_rf a0, .int a1, va_rf a2, .int a3] zm_tvI (fn_X2_overlapping K a0 a1 a2 a3) := by
  refine zm_ct H.1 (by decide +kernel) (zl_le (zl_R (zl_I (zl_R (zl_I zl_nil)))) (Nat.le_of_ble_eq_true rfl)) ?_
  intro p e R s m args below meth c n0 k0 C hX ls hl
  have hx := C.1
  have hb := C.2.1
  simp only [zg_I, zg_R, zg_nil] at hl
  have hl : lv_has ls 7 [(0, va_rf a0), (1, .int a1), (2, va_rf a2), (3, .int a3)] := hl
  refine rk_rf ?_
  unfold fn_X2_overlapping
  refine rk_ofs (fun _ _ _ _ _ k => lv_iconst (v := (-1)) hx hb dX2_overlapping_0 rfl (lr_istore hx hb dX2_overlapping_1 hl (Nat.le_of_ble_eq_true rfl) [0, 1, 2, 3] rfl ⟨trivial, ⟨trivial, ⟨trivial, ⟨rfl, trivial⟩⟩⟩⟩ k)) (fun ls hl => ?_)
  refine rk_ofs (fun _ _ _ _ _ k => lv_iconst (v := 0) hx hb dX2_overlapping_3 rfl (lr_istore hx hb dX2_overlapping_4 hl (Nat.le_of_ble_eq_true rfl) [0, 1, 2, 3, 4] rfl ⟨rfl, ⟨trivial, ⟨trivial, ⟨trivial, ⟨trivial, trivial⟩⟩⟩⟩⟩ k)) (fun ls hl => ?_)
  refine rk_join (β := Int32) (fun (b106 : Int32) ls => lv_has ls 7 [(4, .int b106)]) (fun (b106 : Int32) ls => F0 m 106 ls []) (fun b106 ls hl => ?_) (fun hJ106 => ?_)
  · refine rk_of (fun _ _ _ _ _ k => lv_iload hx hb dX2_overlapping_106 (lv_at hl 0 rfl) k) ?_
    exact rk_top (rf_iret C rfl dX2_overlapping_108)
  · exact rf_X2_overlapping_6 H C hX a0 a1 a2 a3 zm_N (-1) 0 _ ls (lv_sub hl [2, 3, 4, 5, 1, 0] rfl) hJ106
theorem hd_X2_checkFree : yX2_checkFree.cls ≠ "java/lang/invoke/MethodHandle" ∧ yX2_checkFree.cls ≠ "java/lang/invoke/VarHandle" ∧ (parseMethodDescriptor yX2_checkFree.desc).map (fun d => d.parameters.length) = some 3 := by decide +kernel
noncomputable def fn_X2_checkFree (K : zm_K) (a0 : zm_R) (a1 : Int32) (a2 : zm_R) (a3 : Int32) : zm_M Unit :=
  zm_bnd (zm_bnd (zm_is a0 19) fun _ => fn_X2_overlapping K a0 a1 a2 a3) fun v4 =>
  zm_bnd (α := Int32) (
      if v4 = (-1) then
        zm_ret 1
      else
        zm_ret 0
    ) fun b20 =>
  zm_bnd (fn_X1_meet K b20 3 v4) fun _ =>
  zm_ret ()
theorem ct_X2_checkFree {l : Launch} {Ω : zm_W} {K : zm_K} (H : zm_H Ω K) (a0 : zm_R) (a1 : Int32) (a2 : zm_R) (a3 : Int32) : zm_Ct l Ω yX2_checkFree (ws_ yX2_checkFree cX2_checkFree 5 (Option.none : Option Jvm.ClassFile.FieldType)) 12 301 [va_rf a0, .int a1, va_rf a2, .int a3] zm_tvV (fn_X2_checkFree K a0 a1 a2 a3) := by
  refine zm_ct H.1 (by decide +kernel) (zl_le (zl_R (zl_I (zl_R (zl_I zl_nil)))) (Nat.le_of_ble_eq_true rfl)) ?_
  intro p e R s m args below meth c n0 k0 C hX ls hl
  have hx := C.1
  have hb := C.2.1
  simp only [zg_I, zg_R, zg_nil] at hl
  have hl : lv_has ls 5 [(0, va_rf a0), (1, .int a1), (2, va_rf a2), (3, .int a3)] := hl
  refine rk_rf ?_
  unfold fn_X2_checkFree
  refine rk_of (fun _ _ _ _ _ k => lr_aload_n hx hb dX2_checkFree_0 rfl (lv_at hl 0 rfl) (lv_iload_n hx hb dX2_checkFree_1 rfl (lv_at hl 1 rfl) (lr_aload_n hx hb dX2_checkFree_2 rfl (lv_at hl 2 rfl) (lv_iload_n hx hb dX2_checkFree_3 rfl (lv_at hl 3 rfl) k)))) ?_
  refine rk_callI hX (cl_V (rest := []) (av := [.int a1, va_rf a2, .int a3]) C (hc_X2 H) (ct_X2_overlapping H a0 a1 a2 a3) (lw_V q1433 q1435 qs17 q102 q1436) ⟨rfl, hd_X2_overlapping⟩ ⟨(Nat.le_of_ble_eq_true rfl), (Nat.le_of_ble_eq_true rfl)⟩ rfl hl.1 rfl (zw_le zw_nil (Nat.le_of_ble_eq_true rfl)) dX2_checkFree_4) (fun v4 => ?_)
  refine rk_ofs (fun _ _ _ _ _ k => lr_istore hx hb dX2_checkFree_7 hl (Nat.le_of_ble_eq_true rfl) [] rfl trivial k) (fun ls hl => ?_)
  refine rk_of (fun _ _ _ _ _ k => lv_iload hx hb dX2_checkFree_9 (lv_at hl 0 rfl) (lv_iconst (v := (-1)) hx hb dX2_checkFree_11 rfl k)) ?_
  refine rk_join (β := Int32) (fun (b20 : Int32) ls => lv_has ls 5 [(4, .int v4)]) (fun (b20 : Int32) ls => F0 m 20 ls [.int b20]) (fun b20 ls hl => ?_) (fun hJ20 => ?_)
  · refine rk_of (fun _ _ _ _ _ k => lv_iconst (v := 3) hx hb dX2_checkFree_20 rfl (lv_iload hx hb dX2_checkFree_21 (lv_at hl 0 rfl) k)) ?_
    refine rk_callV hX (cl_SN (rest := []) C (ct_X1_meet H b20 3 v4) (lw_meth q1151) q101 (zn_wM H C q1149) q1150 hd_X1_meet ⟨(Nat.le_of_ble_eq_true rfl), (Nat.le_of_ble_eq_true rfl)⟩ rfl hl.1 rfl (zw_le zw_nil (Nat.le_of_ble_eq_true rfl)) dX2_checkFree_23) (fun _ => ?_)
    exact rk_top (rf_vret C dX2_checkFree_26)
  · refine rk_ite (fun _ _ _ _ _ k1 k2 => lv_icmp_ne (tgt := 19) hx hb dX2_checkFree_12 (by decide) k2 k1) (fun c_12 => ?_) (fun c_12 => ?_)
    · refine rk_of (fun _ _ _ _ _ k => lv_iconst (v := 1) hx hb dX2_checkFree_15 rfl (lv_goto (tgt := 20) hx hb dX2_checkFree_16 (by decide) k)) ?_
      exact hJ20 1 ls (lv_sub hl [0] rfl)
    · refine rk_of (fun _ _ _ _ _ k => lv_iconst (v := 0) hx hb dX2_checkFree_19 rfl k) ?_
      exact hJ20 0 ls (lv_sub hl [0] rfl)
theorem hd_X2_makes : yX2_makes.cls ≠ "java/lang/invoke/MethodHandle" ∧ yX2_makes.cls ≠ "java/lang/invoke/VarHandle" ∧ (parseMethodDescriptor yX2_makes.desc).map (fun d => d.parameters.length) = some 1 := by decide +kernel
noncomputable def fn_X2_makes (K : zm_K) (a0 : zm_R) (a1 : zm_R) : zm_M Int32 :=
  zm_bnd (zm_getR a0 19 1) fun v1 =>
  zm_bnd (zm_bnd (zm_cls v1) fun ci => if ci = 0 then fn_J2_size K v1 else if ci = 1 then fn_J4_size K v1 else zm_fl) fun v4 =>
  zm_bnd (α := Int32) (
      if 30 ≤ v4 then
        zm_ret 0
      else
        zm_ret 1
    ) fun b19 =>
  zm_bnd (fn_X1_meet K b19 1 30) fun _ =>
  zm_bnd (zm_getR a0 19 1) fun v26 =>
  zm_bnd (zm_bnd (zm_cls v26) fun ci => if ci = 0 then fn_J2_add K v26 a1 else if ci = 1 then fn_J4_add K v26 a1 else zm_fl) fun v30 =>
  zm_bnd (zm_getR a0 19 1) fun v37 =>
  zm_bnd (zm_bnd (zm_cls v37) fun ci => if ci = 0 then fn_J2_size K v37 else if ci = 1 then fn_J4_size K v37 else zm_fl) fun v40 =>
  zm_ret (v40 - 1)
theorem ct_X2_makes {l : Launch} {Ω : zm_W} {K : zm_K} (H : zm_H Ω K) (a0 : zm_R) (a1 : zm_R) : zm_Ct l Ω yX2_makes (ws_ yX2_makes cX2_makes 2 (Option.some Jvm.ClassFile.FieldType.int)) 10 259 [va_rf a0, va_rf a1] zm_tvI (fn_X2_makes K a0 a1) := by
  refine zm_ct H.1 (by decide +kernel) (zl_le (zl_R (zl_R zl_nil)) (Nat.le_of_ble_eq_true rfl)) ?_
  intro p e R s m args below meth c n0 k0 C hX ls hl
  have hx := C.1
  have hb := C.2.1
  simp only [zg_R, zg_nil] at hl
  have hl : lv_has ls 2 [(0, va_rf a0), (1, va_rf a1)] := hl
  refine rk_rf ?_
  unfold fn_X2_makes
  refine rk_of (fun _ _ _ _ _ k => lr_aload_n hx hb dX2_makes_0 rfl (lv_at hl 0 rfl) k) ?_
  refine rk_get zm_rdR_eq C (hc_X2 H) (k := 1) (Nat.le_of_ble_eq_true rfl) in_X2 q198 (fun _ h => h) dX2_makes_1 (fun v1 => ?_)
  refine rk_callI hX (cl_dsp (fun ci => cl_case (cl_F (n := 0) (rest := []) (av := []) C (hc_J2 H) (ct_J2_size H v1) (lw_F q1054 q1057 q752 q105 q753) (zh_Fw H C (by decide) q1056 q1055 q1059 q1058 q309) (by decide +kernel) ⟨(Nat.le_of_ble_eq_true rfl), (Nat.le_of_ble_eq_true rfl)⟩ rfl hl.1 rfl (zw_le zw_nil (Nat.le_of_ble_eq_true rfl)) dX2_makes_4) (cl_case (cl_F (n := 0) (rest := []) (av := []) C (hc_J4 H) (ct_J4_size H v1) (lw_F q1054 q1060 q755 q107 q756) (zh_Fw H C (by decide) q1056 q1055 q1062 q1061 q336) (by decide +kernel) ⟨(Nat.le_of_ble_eq_true rfl), (Nat.le_of_ble_eq_true rfl)⟩ rfl hl.1 rfl (zw_le zw_nil (Nat.le_of_ble_eq_true rfl)) dX2_makes_4) (cl_fl)))) (fun v4 => ?_)
  refine rk_of (fun _ _ _ _ _ k => lv_bipush (v := 30) hx hb dX2_makes_9 rfl k) ?_
  refine rk_join (β := Int32) (fun (b19 : Int32) ls => lv_has ls 2 [(0, va_rf a0), (1, va_rf a1)]) (fun (b19 : Int32) ls => F0 m 19 ls [.int b19]) (fun b19 ls hl => ?_) (fun hJ19 => ?_)
  · refine rk_of (fun _ _ _ _ _ k => lv_iconst (v := 1) hx hb dX2_makes_19 rfl (lv_bipush (v := 30) hx hb dX2_makes_20 rfl k)) ?_
    refine rk_callV hX (cl_SN (rest := []) C (ct_X1_meet H b19 1 30) (lw_meth q1151) q101 (zn_wM H C q1149) q1150 hd_X1_meet ⟨(Nat.le_of_ble_eq_true rfl), (Nat.le_of_ble_eq_true rfl)⟩ rfl hl.1 rfl (zw_le zw_nil (Nat.le_of_ble_eq_true rfl)) dX2_makes_22) (fun _ => ?_)
    refine rk_of (fun _ _ _ _ _ k => lr_aload_n hx hb dX2_makes_25 rfl (lv_at hl 0 rfl) k) ?_
    refine rk_get zm_rdR_eq C (hc_X2 H) (k := 1) (Nat.le_of_ble_eq_true rfl) in_X2 q198 (fun _ h => h) dX2_makes_26 (fun v26 => ?_)
    refine rk_of (fun _ _ _ _ _ k => lr_aload_n hx hb dX2_makes_29 rfl (lv_at hl 1 rfl) k) ?_
    refine rk_callI hX (cl_dsp (fun ci => cl_case (cl_F (n := 1) (rest := []) (av := [va_rf a1]) C (hc_J2 H) (ct_J2_add H v26 a1) (lw_F q1199 q1202 q1204 q105 q1206) (zh_Fw H C (by decide) q1201 q1200 q1205 q1203 q309) (by decide +kernel) ⟨(Nat.le_of_ble_eq_true rfl), (Nat.le_of_ble_eq_true rfl)⟩ rfl hl.1 rfl (zw_le zw_nil (Nat.le_of_ble_eq_true rfl)) dX2_makes_30) (cl_case (cl_F (n := 1) (rest := []) (av := [va_rf a1]) C (hc_J4 H) (ct_J4_add H v26 a1) (lw_F q1199 q1232 q1234 q107 q1236) (zh_Fw H C (by decide) q1201 q1200 q1235 q1233 q336) (by decide +kernel) ⟨(Nat.le_of_ble_eq_true rfl), (Nat.le_of_ble_eq_true rfl)⟩ rfl hl.1 rfl (zw_le zw_nil (Nat.le_of_ble_eq_true rfl)) dX2_makes_30) (cl_fl)))) (fun v30 => ?_)
    refine rk_of (fun _ _ _ _ _ k => lv_pop hx hb dX2_makes_35 rfl (lr_aload_n hx hb dX2_makes_36 rfl (lv_at hl 0 rfl) k)) ?_
    refine rk_get zm_rdR_eq C (hc_X2 H) (k := 1) (Nat.le_of_ble_eq_true rfl) in_X2 q198 (fun _ h => h) dX2_makes_37 (fun v37 => ?_)
    refine rk_callI hX (cl_dsp (fun ci => cl_case (cl_F (n := 0) (rest := []) (av := []) C (hc_J2 H) (ct_J2_size H v37) (lw_F q1054 q1057 q752 q105 q753) (zh_Fw H C (by decide) q1056 q1055 q1059 q1058 q309) (by decide +kernel) ⟨(Nat.le_of_ble_eq_true rfl), (Nat.le_of_ble_eq_true rfl)⟩ rfl hl.1 rfl (zw_le zw_nil (Nat.le_of_ble_eq_true rfl)) dX2_makes_40) (cl_case (cl_F (n := 0) (rest := []) (av := []) C (hc_J4 H) (ct_J4_size H v37) (lw_F q1054 q1060 q755 q107 q756) (zh_Fw H C (by decide) q1056 q1055 q1062 q1061 q336) (by decide +kernel) ⟨(Nat.le_of_ble_eq_true rfl), (Nat.le_of_ble_eq_true rfl)⟩ rfl hl.1 rfl (zw_le zw_nil (Nat.le_of_ble_eq_true rfl)) dX2_makes_40) (cl_fl)))) (fun v40 => ?_)
    refine rk_of (fun _ _ _ _ _ k => lv_iconst (v := 1) hx hb dX2_makes_45 rfl (lv_isub hx hb dX2_makes_46 k)) ?_
    exact rk_top (rf_iret C rfl dX2_makes_47)
  · refine rk_ite (fun _ _ _ _ _ k1 k2 => lv_icmp_ge (tgt := 18) hx hb dX2_makes_11 (by decide) k1 k2) (fun c_11 => ?_) (fun c_11 => ?_)
    · refine rk_of (fun _ _ _ _ _ k => lv_iconst (v := 0) hx hb dX2_makes_18 rfl k) ?_
      exact hJ19 0 ls (lv_sub hl [0, 1] rfl)
    · refine rk_of (fun _ _ _ _ _ k => lv_iconst (v := 1) hx hb dX2_makes_14 rfl (lv_goto (tgt := 19) hx hb dX2_makes_15 (by decide) k)) ?_
      exact hJ19 1 ls (lv_sub hl [0, 1] rfl)
theorem hd_X2_lets : yX2_lets.cls ≠ "java/lang/invoke/MethodHandle" ∧ yX2_lets.cls ≠ "java/lang/invoke/VarHandle" ∧ (parseMethodDescriptor yX2_lets.desc).map (fun d => d.parameters.length) = some 3 := by decide +kernel
noncomputable def fn_X2_lets (K : zm_K) (a0 : zm_R) (a1 : Int32) (a2 : Int32) (a3 : zm_R) : zm_M Int32 :=
  zm_bnd (zm_bnd (zm_is a0 19) fun _ => fn_X2_seats K a0 a1) fun v3 =>
  zm_bnd (α := Int32) (
      if v3 < a2 then
        zm_ret 0
      else
        zm_ret 1
    ) fun b14 =>
  zm_bnd (zm_bnd (zm_is a0 19) fun _ => fn_X2_seats K a0 a1) fun v17 =>
  zm_bnd (fn_X1_meet K b14 2 v17) fun _ =>
  zm_bnd (zm_bnd (zm_is a0 19) fun _ => fn_X2_checkFree K a0 a1 a3 (-1)) fun _ =>
  zm_bnd (zm_new 23 [.int 0, .int 0, .null, .int 0]) fun v31 =>
  zm_bnd (fn_X6_init K (some v31) a1 a2 a3) fun _ =>
  zm_bnd (zm_bnd (zm_is a0 19) fun _ => fn_X2_makes K a0 (some v31)) fun v41 =>
  zm_ret v41
theorem ct_X2_lets {l : Launch} {Ω : zm_W} {K : zm_K} (H : zm_H Ω K) (a0 : zm_R) (a1 : Int32) (a2 : Int32) (a3 : zm_R) : zm_Ct l Ω yX2_lets (ws_ yX2_lets cX2_lets 4 (Option.some Jvm.ClassFile.FieldType.int)) 13 325 [va_rf a0, .int a1, .int a2, va_rf a3] zm_tvI (fn_X2_lets K a0 a1 a2 a3) := by
  refine zm_ct H.1 (by decide +kernel) (zl_le (zl_R (zl_I (zl_I (zl_R zl_nil)))) (Nat.le_of_ble_eq_true rfl)) ?_
  intro p e R s m args below meth c n0 k0 C hX ls hl
  have hx := C.1
  have hb := C.2.1
  simp only [zg_I, zg_R, zg_nil] at hl
  have hl : lv_has ls 4 [(0, va_rf a0), (1, .int a1), (2, .int a2), (3, va_rf a3)] := hl
  refine rk_rf ?_
  unfold fn_X2_lets
  refine rk_of (fun _ _ _ _ _ k => lv_iload_n hx hb dX2_lets_0 rfl (lv_at hl 2 rfl) (lr_aload_n hx hb dX2_lets_1 rfl (lv_at hl 0 rfl) (lv_iload_n hx hb dX2_lets_2 rfl (lv_at hl 1 rfl) k))) ?_
  refine rk_callI hX (cl_V (rest := [.int a2]) (av := [.int a1]) C (hc_X2 H) (ct_X2_seats H a0 a1) (lw_V q1420 q1421 q1422 q102 q1423) ⟨rfl, hd_X2_seats⟩ ⟨(Nat.le_of_ble_eq_true rfl), (Nat.le_of_ble_eq_true rfl)⟩ rfl hl.1 rfl (zw_le (zw_I zw_nil) (Nat.le_of_ble_eq_true rfl)) dX2_lets_3) (fun v3 => ?_)
  refine rk_join (β := Int32) (fun (b14 : Int32) ls => lv_has ls 4 [(0, va_rf a0), (1, .int a1), (2, .int a2), (3, va_rf a3)]) (fun (b14 : Int32) ls => F0 m 14 ls [.int b14]) (fun b14 ls hl => ?_) (fun hJ14 => ?_)
  · refine rk_of (fun _ _ _ _ _ k => lv_iconst (v := 2) hx hb dX2_lets_14 rfl (lr_aload_n hx hb dX2_lets_15 rfl (lv_at hl 0 rfl) (lv_iload_n hx hb dX2_lets_16 rfl (lv_at hl 1 rfl) k))) ?_
    refine rk_callI hX (cl_V (rest := [.int 2, .int b14]) (av := [.int a1]) C (hc_X2 H) (ct_X2_seats H a0 a1) (lw_V q1420 q1421 q1422 q102 q1423) ⟨rfl, hd_X2_seats⟩ ⟨(Nat.le_of_ble_eq_true rfl), (Nat.le_of_ble_eq_true rfl)⟩ rfl hl.1 rfl (zw_le (zw_I (zw_I zw_nil)) (Nat.le_of_ble_eq_true rfl)) dX2_lets_17) (fun v17 => ?_)
    refine rk_callV hX (cl_SN (rest := []) C (ct_X1_meet H b14 2 v17) (lw_meth q1151) q101 (zn_wM H C q1149) q1150 hd_X1_meet ⟨(Nat.le_of_ble_eq_true rfl), (Nat.le_of_ble_eq_true rfl)⟩ rfl hl.1 rfl (zw_le zw_nil (Nat.le_of_ble_eq_true rfl)) dX2_lets_20) (fun _ => ?_)
    refine rk_of (fun _ _ _ _ _ k => lr_aload_n hx hb dX2_lets_23 rfl (lv_at hl 0 rfl) (lv_iload_n hx hb dX2_lets_24 rfl (lv_at hl 1 rfl) (lr_aload_n hx hb dX2_lets_25 rfl (lv_at hl 3 rfl) (lv_iconst (v := (-1)) hx hb dX2_lets_26 rfl k)))) ?_
    refine rk_callV hX (cl_V (rest := []) (av := [.int a1, va_rf a3, .int (-1)]) C (hc_X2 H) (ct_X2_checkFree H a0 a1 a3 (-1)) (lw_V q1429 q1431 qs16 q102 q1432) ⟨rfl, hd_X2_checkFree⟩ ⟨(Nat.le_of_ble_eq_true rfl), (Nat.le_of_ble_eq_true rfl)⟩ rfl hl.1 rfl (zw_le zw_nil (Nat.le_of_ble_eq_true rfl)) dX2_lets_27) (fun _ => ?_)
    refine rk_of (fun _ _ _ _ _ k => lr_aload_n hx hb dX2_lets_30 rfl (lv_at hl 0 rfl) k) ?_
    refine rk_new C (hc_X6 H) in_X6 tyX6_ok q1094 q1315 q137 (fs := [.int 0, .int 0, .null, .int 0]) rfl (fun j hj => zdf_X6 j hj) dX2_lets_31 (fun v31 => ?_)
    refine rk_of (fun _ _ _ _ _ k => lv_dup hx hb dX2_lets_34 (va_rf_cat _) (lv_iload_n hx hb dX2_lets_35 rfl (lv_at hl 1 rfl) (lv_iload_n hx hb dX2_lets_36 rfl (lv_at hl 2 rfl) (lr_aload_n hx hb dX2_lets_37 rfl (lv_at hl 3 rfl) k)))) ?_
    refine rk_callV hX (cl_I (rest := [va_rf (some v31), va_rf a0]) C (ct_X6_init H (some v31) a1 a2 a3) (lw_meth q1318) q137 q1441 q1317 rfl hd_X6_init ⟨(Nat.le_of_ble_eq_true rfl), (Nat.le_of_ble_eq_true rfl)⟩ rfl hl.1 rfl (zw_le (zw_R (zw_R zw_nil)) (Nat.le_of_ble_eq_true rfl)) dX2_lets_38) (fun _ => ?_)
    refine rk_callI hX (cl_V (rest := []) (av := [va_rf (some v31)]) C (hc_X2 H) (ct_X2_makes H a0 (some v31)) (lw_V q1442 q1444 qs18 q102 q1445) ⟨rfl, hd_X2_makes⟩ ⟨(Nat.le_of_ble_eq_true rfl), (Nat.le_of_ble_eq_true rfl)⟩ rfl hl.1 rfl (zw_le zw_nil (Nat.le_of_ble_eq_true rfl)) dX2_lets_41) (fun v41 => ?_)
    exact rk_top (rf_iret C rfl dX2_lets_44)
  · refine rk_ite (fun _ _ _ _ _ k1 k2 => lv_icmp_gt (tgt := 13) hx hb dX2_lets_6 (by decide) k1 k2) (fun c_6 => ?_) (fun c_6 => ?_)
    · refine rk_of (fun _ _ _ _ _ k => lv_iconst (v := 0) hx hb dX2_lets_13 rfl k) ?_
      exact hJ14 0 ls (lv_sub hl [0, 1, 2, 3] rfl)
    · refine rk_of (fun _ _ _ _ _ k => lv_iconst (v := 1) hx hb dX2_lets_9 rfl (lv_goto (tgt := 14) hx hb dX2_lets_10 (by decide) k)) ?_
      exact hJ14 1 ls (lv_sub hl [0, 1, 2, 3] rfl)
theorem hd_X1_lambda_let_1 : yX1_lambda_let_1.cls ≠ "java/lang/invoke/MethodHandle" ∧ yX1_lambda_let_1.cls ≠ "java/lang/invoke/VarHandle" ∧ (parseMethodDescriptor yX1_lambda_let_1.desc).map (fun d => d.parameters.length) = some 4 := by decide +kernel
noncomputable def fn_X1_lambda_let_1 (K : zm_K) (a0 : Int32) (a1 : Int32) (a2 : zm_R) (a3 : zm_R) : zm_M Int32 :=
  zm_bnd (zm_bnd (zm_is a3 19) fun _ => fn_X2_lets K a3 a0 a1 a2) fun v4 =>
  zm_ret v4
theorem ct_X1_lambda_let_1 {l : Launch} {Ω : zm_W} {K : zm_K} (H : zm_H Ω K) (a0 : Int32) (a1 : Int32) (a2 : zm_R) (a3 : zm_R) : zm_Ct l Ω yX1_lambda_let_1 (ws_ yX1_lambda_let_1 cX1_lambda_let_1 4 (Option.some Jvm.ClassFile.FieldType.int)) 14 348 [.int a0, .int a1, va_rf a2, va_rf a3] zm_tvI (fn_X1_lambda_let_1 K a0 a1 a2 a3) := by
  refine zm_ct H.1 (by decide +kernel) (zl_le (zl_I (zl_I (zl_R (zl_R zl_nil)))) (Nat.le_of_ble_eq_true rfl)) ?_
  intro p e R s m args below meth c n0 k0 C hX ls hl
  have hx := C.1
  have hb := C.2.1
  simp only [zg_I, zg_R, zg_nil] at hl
  have hl : lv_has ls 4 [(0, .int a0), (1, .int a1), (2, va_rf a2), (3, va_rf a3)] := hl
  refine rk_rf ?_
  unfold fn_X1_lambda_let_1
  refine rk_of (fun _ _ _ _ _ k => lr_aload_n hx hb dX1_lambda_let_1_0 rfl (lv_at hl 3 rfl) (lv_iload_n hx hb dX1_lambda_let_1_1 rfl (lv_at hl 0 rfl) (lv_iload_n hx hb dX1_lambda_let_1_2 rfl (lv_at hl 1 rfl) (lr_aload_n hx hb dX1_lambda_let_1_3 rfl (lv_at hl 2 rfl) k)))) ?_
  refine rk_callI hX (cl_V (rest := []) (av := [.int a0, .int a1, va_rf a2]) C (hc_X2 H) (ct_X2_lets H a3 a0 a1 a2) (lw_V q1416 q1417 q1418 q102 q1419) ⟨rfl, hd_X2_lets⟩ ⟨(Nat.le_of_ble_eq_true rfl), (Nat.le_of_ble_eq_true rfl)⟩ rfl hl.1 rfl (zw_le zw_nil (Nat.le_of_ble_eq_true rfl)) dX1_lambda_let_1_4) (fun v4 => ?_)
  exact rk_top (rf_iret C rfl dX1_lambda_let_1_7)
theorem hd_X6_isOver : yX6_isOver.cls ≠ "java/lang/invoke/MethodHandle" ∧ yX6_isOver.cls ≠ "java/lang/invoke/VarHandle" ∧ (parseMethodDescriptor yX6_isOver.desc).map (fun d => d.parameters.length) = some 0 := by decide +kernel
noncomputable def fn_X6_isOver (K : zm_K) (a0 : zm_R) : zm_M Int32 :=
  zm_bnd (zm_getI a0 23 3) fun v1 =>
  zm_bnd (zm_grd (v1 = 0 ∨ v1 = 1)) fun _ =>
  zm_ret v1
theorem ct_X6_isOver {l : Launch} {Ω : zm_W} {K : zm_K} (H : zm_H Ω K) (a0 : zm_R) : zm_Ct l Ω yX6_isOver (ws_ yX6_isOver cX6_isOver 1 (Option.some Jvm.ClassFile.FieldType.boolean)) 1 64 [va_rf a0] zm_tvI (fn_X6_isOver K a0) := by
  refine zm_ct H.1 (by decide +kernel) (zl_le (zl_R zl_nil) (Nat.le_of_ble_eq_true rfl)) ?_
  intro p e R s m args below meth c n0 k0 C hX ls hl
  have hx := C.1
  have hb := C.2.1
  simp only [zg_R, zg_nil] at hl
  have hl : lv_has ls 1 [(0, va_rf a0)] := hl
  refine rk_rf ?_
  unfold fn_X6_isOver
  refine rk_of (fun _ _ _ _ _ k => lr_aload_n hx hb dX6_isOver_0 rfl (lv_at hl 0 rfl) k) ?_
  refine rk_get zm_rdI_eq C (hc_X6 H) (k := 3) (Nat.le_of_ble_eq_true rfl) in_X6 q1323 (fun _ h => h) dX6_isOver_1 (fun v1 => ?_)
  refine rk_grd (fun hg_4 => ?_)
  exact rk_top (rf_iret C (zn_Z hg_4) dX6_isOver_4)
theorem hd_X2_checkLetting : yX2_checkLetting.cls ≠ "java/lang/invoke/MethodHandle" ∧ yX2_checkLetting.cls ≠ "java/lang/invoke/VarHandle" ∧ (parseMethodDescriptor yX2_checkLetting.desc).map (fun d => d.parameters.length) = some 1 := by decide +kernel
noncomputable def fn_X2_checkLetting (K : zm_K) (a0 : zm_R) (a1 : Int32) : zm_M Unit :=
  zm_bnd (zm_bnd (zm_is a0 19) fun _ => fn_X2_letting K a0 a1) fun v2 =>
  zm_bnd (zm_bnd (zm_is v2 23) fun _ => fn_X6_isOver K v2) fun v5 =>
  zm_bnd (α := Int32) (
      if v5 = 0 then
        zm_ret 1
      else
        zm_ret 0
    ) fun b16 =>
  zm_bnd (fn_X1_meet K b16 4 a1) fun _ =>
  zm_ret ()
theorem ct_X2_checkLetting {l : Launch} {Ω : zm_W} {K : zm_K} (H : zm_H Ω K) (a0 : zm_R) (a1 : Int32) : zm_Ct l Ω yX2_checkLetting (ws_ yX2_checkLetting cX2_checkLetting 2 (Option.none : Option Jvm.ClassFile.FieldType)) 11 275 [va_rf a0, .int a1] zm_tvV (fn_X2_checkLetting K a0 a1) := by
  refine zm_ct H.1 (by decide +kernel) (zl_le (zl_R (zl_I zl_nil)) (Nat.le_of_ble_eq_true rfl)) ?_
  intro p e R s m args below meth c n0 k0 C hX ls hl
  have hx := C.1
  have hb := C.2.1
  simp only [zg_I, zg_R, zg_nil] at hl
  have hl : lv_has ls 2 [(0, va_rf a0), (1, .int a1)] := hl
  refine rk_rf ?_
  unfold fn_X2_checkLetting
  refine rk_of (fun _ _ _ _ _ k => lr_aload_n hx hb dX2_checkLetting_0 rfl (lv_at hl 0 rfl) (lv_iload_n hx hb dX2_checkLetting_1 rfl (lv_at hl 1 rfl) k)) ?_
  refine rk_callR hX (cl_V (rest := []) (av := [.int a1]) C (hc_X2 H) (ct_X2_letting H a0 a1) (lw_V q1090 q1091 q1092 q102 q1093) ⟨rfl, hd_X2_letting⟩ ⟨(Nat.le_of_ble_eq_true rfl), (Nat.le_of_ble_eq_true rfl)⟩ rfl hl.1 rfl (zw_le zw_nil (Nat.le_of_ble_eq_true rfl)) dX2_checkLetting_2) (fun v2 => ?_)
  refine rk_callI hX (cl_V (rest := []) (av := []) C (hc_X6 H) (ct_X6_isOver H v2) (lw_V q1474 q1475 q1476 q137 q1477) ⟨rfl, hd_X6_isOver⟩ ⟨(Nat.le_of_ble_eq_true rfl), (Nat.le_of_ble_eq_true rfl)⟩ rfl hl.1 rfl (zw_le zw_nil (Nat.le_of_ble_eq_true rfl)) dX2_checkLetting_5) (fun v5 => ?_)
  refine rk_join (β := Int32) (fun (b16 : Int32) ls => lv_has ls 2 [(1, .int a1)]) (fun (b16 : Int32) ls => F0 m 16 ls [.int b16]) (fun b16 ls hl => ?_) (fun hJ16 => ?_)
  · refine rk_of (fun _ _ _ _ _ k => lv_iconst (v := 4) hx hb dX2_checkLetting_16 rfl (lv_iload_n hx hb dX2_checkLetting_17 rfl (lv_at hl 0 rfl) k)) ?_
    refine rk_callV hX (cl_SN (rest := []) C (ct_X1_meet H b16 4 a1) (lw_meth q1151) q101 (zn_wM H C q1149) q1150 hd_X1_meet ⟨(Nat.le_of_ble_eq_true rfl), (Nat.le_of_ble_eq_true rfl)⟩ rfl hl.1 rfl (zw_le zw_nil (Nat.le_of_ble_eq_true rfl)) dX2_checkLetting_18) (fun _ => ?_)
    exact rk_top (rf_vret C dX2_checkLetting_21)
  · refine rk_ite (fun _ _ _ _ _ k1 k2 => lv_if_ne (tgt := 15) hx hb dX2_checkLetting_8 (by decide) k2 k1) (fun c_8 => ?_) (fun c_8 => ?_)
    · refine rk_of (fun _ _ _ _ _ k => lv_iconst (v := 1) hx hb dX2_checkLetting_11 rfl (lv_goto (tgt := 16) hx hb dX2_checkLetting_12 (by decide) k)) ?_
      exact hJ16 1 ls (lv_sub hl [1] rfl)
    · refine rk_of (fun _ _ _ _ _ k => lv_iconst (v := 0) hx hb dX2_checkLetting_15 rfl k) ?_
      exact hJ16 0 ls (lv_sub hl [1] rfl)
theorem hd_X7_length : yX7_length.cls ≠ "java/lang/invoke/MethodHandle" ∧ yX7_length.cls ≠ "java/lang/invoke/VarHandle" ∧ (parseMethodDescriptor yX7_length.desc).map (fun d => d.parameters.length) = some 0 := by decide +kernel
noncomputable def fn_X7_length (K : zm_K) (a0 : zm_R) : zm_M Int32 :=
  zm_bnd (zm_bnd (zm_cls a0) fun ci => if ci = 23 then fn_X6_to K a0 else if ci = 22 then fn_X5_to K a0 else if ci = 24 then fn_X8_to K a0 else zm_fl) fun v1 =>
  zm_bnd (zm_bnd (zm_cls a0) fun ci => if ci = 23 then fn_X6_from K a0 else if ci = 22 then fn_X5_from K a0 else if ci = 24 then fn_X8_from K a0 else zm_fl) fun v7 =>
  zm_ret (v1 - v7)
theorem ct_X7_length {l : Launch} {Ω : zm_W} {K : zm_K} (H : zm_H Ω K) (a0 : zm_R) : zm_Ct l Ω yX7_length (ws_ yX7_length cX7_length 1 (Option.some Jvm.ClassFile.FieldType.int)) 3 104 [va_rf a0] zm_tvI (fn_X7_length K a0) := by
  refine zm_ct H.1 (by decide +kernel) (zl_le (zl_R zl_nil) (Nat.le_of_ble_eq_true rfl)) ?_
  intro p e R s m args below meth c n0 k0 C hX ls hl
  have hx := C.1
  have hb := C.2.1
  simp only [zg_R, zg_nil] at hl
  have hl : lv_has ls 1 [(0, va_rf a0)] := hl
  refine rk_rf ?_
  unfold fn_X7_length
  refine rk_of (fun _ _ _ _ _ k => lr_aload_n hx hb dX7_length_0 rfl (lv_at hl 0 rfl) k) ?_
  refine rk_callI hX (cl_dsp (fun ci => cl_case (cl_F (n := 0) (rest := []) (av := []) C (hc_X6 H) (ct_X6_to H a0) (lw_F q1026 q1029 q1031 q137 q1033) (zh_Fw H C (by decide) q1028 q1027 q1032 q1030 q1004) (by decide +kernel) ⟨(Nat.le_of_ble_eq_true rfl), (Nat.le_of_ble_eq_true rfl)⟩ rfl hl.1 rfl (zw_le zw_nil (Nat.le_of_ble_eq_true rfl)) dX7_length_1) (cl_case (cl_F (n := 0) (rest := []) (av := []) C (hc_X5 H) (ct_X5_to H a0) (lw_F q1026 q1035 q830 q135 q832) (zh_Fw H C (by decide) q1028 q1027 q1037 q1036 q1014) (by decide +kernel) ⟨(Nat.le_of_ble_eq_true rfl), (Nat.le_of_ble_eq_true rfl)⟩ rfl hl.1 rfl (zw_le zw_nil (Nat.le_of_ble_eq_true rfl)) dX7_length_1) (cl_case (cl_F (n := 0) (rest := []) (av := []) C (hc_X8 H) (ct_X8_to H a0) (lw_F q1026 q1038 q1040 q141 q1042) (zh_Fw H C (by decide) q1028 q1027 q1041 q1039 q1018) (by decide +kernel) ⟨(Nat.le_of_ble_eq_true rfl), (Nat.le_of_ble_eq_true rfl)⟩ rfl hl.1 rfl (zw_le zw_nil (Nat.le_of_ble_eq_true rfl)) dX7_length_1) (cl_fl))))) (fun v1 => ?_)
  refine rk_of (fun _ _ _ _ _ k => lr_aload_n hx hb dX7_length_6 rfl (lv_at hl 0 rfl) k) ?_
  refine rk_callI hX (cl_dsp (fun ci => cl_case (cl_F (n := 0) (rest := [.int v1]) (av := []) C (hc_X6 H) (ct_X6_from H a0) (lw_F q1001 q1005 q1007 q137 q1009) (zh_Fw H C (by decide) q1003 q1002 q1008 q1006 q1004) (by decide +kernel) ⟨(Nat.le_of_ble_eq_true rfl), (Nat.le_of_ble_eq_true rfl)⟩ rfl hl.1 rfl (zw_le (zw_I zw_nil) (Nat.le_of_ble_eq_true rfl)) dX7_length_7) (cl_case (cl_F (n := 0) (rest := [.int v1]) (av := []) C (hc_X5 H) (ct_X5_from H a0) (lw_F q1001 q1015 q1011 q135 q1013) (zh_Fw H C (by decide) q1003 q1002 q1017 q1016 q1014) (by decide +kernel) ⟨(Nat.le_of_ble_eq_true rfl), (Nat.le_of_ble_eq_true rfl)⟩ rfl hl.1 rfl (zw_le (zw_I zw_nil) (Nat.le_of_ble_eq_true rfl)) dX7_length_7) (cl_case (cl_F (n := 0) (rest := [.int v1]) (av := []) C (hc_X8 H) (ct_X8_from H a0) (lw_F q1001 q1019 q1021 q141 q1023) (zh_Fw H C (by decide) q1003 q1002 q1022 q1020 q1018) (by decide +kernel) ⟨(Nat.le_of_ble_eq_true rfl), (Nat.le_of_ble_eq_true rfl)⟩ rfl hl.1 rfl (zw_le (zw_I zw_nil) (Nat.le_of_ble_eq_true rfl)) dX7_length_7) (cl_fl))))) (fun v7 => ?_)
  refine rk_of (fun _ _ _ _ _ k => lv_isub hx hb dX7_length_12 k) ?_
  exact rk_top (rf_iret C rfl dX7_length_13)
theorem hd_X6_coins : yX6_coins.cls ≠ "java/lang/invoke/MethodHandle" ∧ yX6_coins.cls ≠ "java/lang/invoke/VarHandle" ∧ (parseMethodDescriptor yX6_coins.desc).map (fun d => d.parameters.length) = some 0 := by decide +kernel
noncomputable def fn_X6_coins (K : zm_K) (a0 : zm_R) : zm_M Int32 :=
  zm_bnd (zm_getI a0 23 3) fun v1 =>
  if v1 = 0 then
    zm_bnd (zm_bnd (zm_is a0 23) fun _ => fn_X7_length K a0) fun v12 =>
    zm_bnd (zm_getI a0 23 1) fun v16 =>
    zm_ret (v12 * v16)
  else
    zm_ret 0
theorem ct_X6_coins {l : Launch} {Ω : zm_W} {K : zm_K} (H : zm_H Ω K) (a0 : zm_R) : zm_Ct l Ω yX6_coins (ws_ yX6_coins cX6_coins 1 (Option.some Jvm.ClassFile.FieldType.int)) 4 124 [va_rf a0] zm_tvI (fn_X6_coins K a0) := by
  refine zm_ct H.1 (by decide +kernel) (zl_le (zl_R zl_nil) (Nat.le_of_ble_eq_true rfl)) ?_
  intro p e R s m args below meth c n0 k0 C hX ls hl
  have hx := C.1
  have hb := C.2.1
  simp only [zg_R, zg_nil] at hl
  have hl : lv_has ls 1 [(0, va_rf a0)] := hl
  refine rk_rf ?_
  unfold fn_X6_coins
  refine rk_of (fun _ _ _ _ _ k => lr_aload_n hx hb dX6_coins_0 rfl (lv_at hl 0 rfl) k) ?_
  refine rk_get zm_rdI_eq C (hc_X6 H) (k := 3) (Nat.le_of_ble_eq_true rfl) in_X6 q1323 (fun _ h => h) dX6_coins_1 (fun v1 => ?_)
  refine rk_ite (fun _ _ _ _ _ k1 k2 => lv_if_eq (tgt := 11) hx hb dX6_coins_4 (by decide) k1 k2) (fun c_4 => ?_) (fun c_4 => ?_)
  · refine rk_of (fun _ _ _ _ _ k => lr_aload_n hx hb dX6_coins_11 rfl (lv_at hl 0 rfl) k) ?_
    refine rk_callI hX (cl_D (n := 0) (rest := []) (av := []) C (hc_X6 H) (ct_X7_length H a0) (lw_meth q1113) q140 ((zh_df H).choose_spec.1 _ (List.mem_of_getElem? (i := 6) rfl)) ((zh_df H).choose_spec.1 _ (List.mem_of_getElem? (i := 5) rfl)) ((zh_df H).choose_spec.2 _ (List.mem_of_getElem? (i := 2) rfl)) (zn_wD H C q1109) q1111 (by decide) (by decide +kernel) ⟨(Nat.le_of_ble_eq_true rfl), (Nat.le_of_ble_eq_true rfl)⟩ rfl hl.1 rfl (zw_le zw_nil (Nat.le_of_ble_eq_true rfl)) dX6_coins_12) (fun v12 => ?_)
    refine rk_of (fun _ _ _ _ _ k => lr_aload_n hx hb dX6_coins_15 rfl (lv_at hl 0 rfl) k) ?_
    refine rk_get zm_rdI_eq C (hc_X6 H) (k := 1) (Nat.le_of_ble_eq_true rfl) in_X6 q1321 (fun _ h => h) dX6_coins_16 (fun v16 => ?_)
    refine rk_of (fun _ _ _ _ _ k => lv_imul hx hb dX6_coins_19 k) ?_
    exact rk_top (rf_iret C rfl dX6_coins_20)
  · refine rk_of (fun _ _ _ _ _ k => lv_iconst (v := 0) hx hb dX6_coins_7 rfl (lv_goto (tgt := 20) hx hb dX6_coins_8 (by decide) k)) ?_
    exact rk_top (rf_iret C rfl dX6_coins_20)
theorem hd_X6_ends : yX6_ends.cls ≠ "java/lang/invoke/MethodHandle" ∧ yX6_ends.cls ≠ "java/lang/invoke/VarHandle" ∧ (parseMethodDescriptor yX6_ends.desc).map (fun d => d.parameters.length) = some 0 := by decide +kernel
noncomputable def fn_X6_ends (K : zm_K) (a0 : zm_R) : zm_M Unit :=
  zm_bnd (zm_putF K a0 23 3 (.int 1)) fun _ =>
  zm_ret ()
theorem ct_X6_ends {l : Launch} {Ω : zm_W} {K : zm_K} (H : zm_H Ω K) (a0 : zm_R) : zm_Ct l Ω yX6_ends (ws_ yX6_ends cX6_ends 1 (Option.none : Option Jvm.ClassFile.FieldType)) 1 64 [va_rf a0] zm_tvV (fn_X6_ends K a0) := by
  refine zm_ct H.1 (by decide +kernel) (zl_le (zl_R zl_nil) (Nat.le_of_ble_eq_true rfl)) ?_
  intro p e R s m args below meth c n0 k0 C hX ls hl
  have hx := C.1
  have hb := C.2.1
  simp only [zg_R, zg_nil] at hl
  have hl : lv_has ls 1 [(0, va_rf a0)] := hl
  refine rk_rf ?_
  unfold fn_X6_ends
  refine rk_of (fun _ _ _ _ _ k => lr_aload_n hx hb dX6_ends_0 rfl (lv_at hl 0 rfl) (lv_iconst (v := 1) hx hb dX6_ends_1 rfl k)) ?_
  refine rk_put C H.2.2.1 (hc_X6 H) (k := 3) (Nat.le_of_ble_eq_true rfl) in_X6 (ty0 := tyX6) tyX6_ok nmX6 q1323 (fun _ h => h) (Or.inl rfl) rfl rfl dX6_ends_2 ?_
  exact rk_top (rf_vret C dX6_ends_5)
theorem hd_X2_cancels : yX2_cancels.cls ≠ "java/lang/invoke/MethodHandle" ∧ yX2_cancels.cls ≠ "java/lang/invoke/VarHandle" ∧ (parseMethodDescriptor yX2_cancels.desc).map (fun d => d.parameters.length) = some 1 := by decide +kernel
noncomputable def fn_X2_cancels (K : zm_K) (a0 : zm_R) (a1 : Int32) : zm_M Int32 :=
  zm_bnd (zm_bnd (zm_is a0 19) fun _ => fn_X2_checkLetting K a0 a1) fun _ =>
  zm_bnd (zm_bnd (zm_is a0 19) fun _ => fn_X2_letting K a0 a1) fun v7 =>
  zm_bnd (zm_bnd (zm_is v7 23) fun _ => fn_X6_coins K v7) fun v10 =>
  zm_bnd (zm_bnd (zm_is a0 19) fun _ => fn_X2_letting K a0 a1) fun v16 =>
  zm_bnd (zm_bnd (zm_is v16 23) fun _ => fn_X6_ends K v16) fun _ =>
  zm_bnd (zm_getI a0 19 4) fun v24 =>
  zm_bnd (zm_putF K a0 19 4 (.int (v24 + 1))) fun _ =>
  zm_ret v10
theorem ct_X2_cancels {l : Launch} {Ω : zm_W} {K : zm_K} (H : zm_H Ω K) (a0 : zm_R) (a1 : Int32) : zm_Ct l Ω yX2_cancels (ws_ yX2_cancels cX2_cancels 3 (Option.some Jvm.ClassFile.FieldType.int)) 12 296 [va_rf a0, .int a1] zm_tvI (fn_X2_cancels K a0 a1) := by
  refine zm_ct H.1 (by decide +kernel) (zl_le (zl_R (zl_I zl_nil)) (Nat.le_of_ble_eq_true rfl)) ?_
  intro p e R s m args below meth c n0 k0 C hX ls hl
  have hx := C.1
  have hb := C.2.1
  simp only [zg_I, zg_R, zg_nil] at hl
  have hl : lv_has ls 3 [(0, va_rf a0), (1, .int a1)] := hl
  refine rk_rf ?_
  unfold fn_X2_cancels
  refine rk_of (fun _ _ _ _ _ k => lr_aload_n hx hb dX2_cancels_0 rfl (lv_at hl 0 rfl) (lv_iload_n hx hb dX2_cancels_1 rfl (lv_at hl 1 rfl) k)) ?_
  refine rk_callV hX (cl_V (rest := []) (av := [.int a1]) C (hc_X2 H) (ct_X2_checkLetting H a0 a1) (lw_V q1470 q1472 qs20 q102 q1473) ⟨rfl, hd_X2_checkLetting⟩ ⟨(Nat.le_of_ble_eq_true rfl), (Nat.le_of_ble_eq_true rfl)⟩ rfl hl.1 rfl (zw_le zw_nil (Nat.le_of_ble_eq_true rfl)) dX2_cancels_2) (fun _ => ?_)
  refine rk_of (fun _ _ _ _ _ k => lr_aload_n hx hb dX2_cancels_5 rfl (lv_at hl 0 rfl) (lv_iload_n hx hb dX2_cancels_6 rfl (lv_at hl 1 rfl) k)) ?_
  refine rk_callR hX (cl_V (rest := []) (av := [.int a1]) C (hc_X2 H) (ct_X2_letting H a0 a1) (lw_V q1090 q1091 q1092 q102 q1093) ⟨rfl, hd_X2_letting⟩ ⟨(Nat.le_of_ble_eq_true rfl), (Nat.le_of_ble_eq_true rfl)⟩ rfl hl.1 rfl (zw_le zw_nil (Nat.le_of_ble_eq_true rfl)) dX2_cancels_7) (fun v7 => ?_)
  refine rk_callI hX (cl_V (rest := []) (av := []) C (hc_X6 H) (ct_X6_coins H v7) (lw_V q1114 q1115 q1116 q137 q1117) ⟨rfl, hd_X6_coins⟩ ⟨(Nat.le_of_ble_eq_true rfl), (Nat.le_of_ble_eq_true rfl)⟩ rfl hl.1 rfl (zw_le zw_nil (Nat.le_of_ble_eq_true rfl)) dX2_cancels_10) (fun v10 => ?_)
  refine rk_ofs (fun _ _ _ _ _ k => lr_istore_n hx hb dX2_cancels_13 rfl hl (Nat.le_of_ble_eq_true rfl) [0, 1] rfl ⟨trivial, ⟨rfl, trivial⟩⟩ k) (fun ls hl => ?_)
  refine rk_of (fun _ _ _ _ _ k => lr_aload_n hx hb dX2_cancels_14 rfl (lv_at hl 1 rfl) (lv_iload_n hx hb dX2_cancels_15 rfl (lv_at hl 2 rfl) k)) ?_
  refine rk_callR hX (cl_V (rest := []) (av := [.int a1]) C (hc_X2 H) (ct_X2_letting H a0 a1) (lw_V q1090 q1091 q1092 q102 q1093) ⟨rfl, hd_X2_letting⟩ ⟨(Nat.le_of_ble_eq_true rfl), (Nat.le_of_ble_eq_true rfl)⟩ rfl hl.1 rfl (zw_le zw_nil (Nat.le_of_ble_eq_true rfl)) dX2_cancels_16) (fun v16 => ?_)
  refine rk_callV hX (cl_V (rest := []) (av := []) C (hc_X6 H) (ct_X6_ends H v16) (lw_V q1478 q1479 q1480 q137 q1481) ⟨rfl, hd_X6_ends⟩ ⟨(Nat.le_of_ble_eq_true rfl), (Nat.le_of_ble_eq_true rfl)⟩ rfl hl.1 rfl (zw_le zw_nil (Nat.le_of_ble_eq_true rfl)) dX2_cancels_19) (fun _ => ?_)
  refine rk_of (fun _ _ _ _ _ k => lr_aload_n hx hb dX2_cancels_22 rfl (lv_at hl 1 rfl) (lv_dup hx hb dX2_cancels_23 (va_rf_cat _) k)) ?_
  refine rk_get zm_rdI_eq C (hc_X2 H) (k := 4) (Nat.le_of_ble_eq_true rfl) in_X2 q201 (fun _ h => h) dX2_cancels_24 (fun v24 => ?_)
  refine rk_of (fun _ _ _ _ _ k => lv_iconst (v := 1) hx hb dX2_cancels_27 rfl (lv_iadd hx hb dX2_cancels_28 k)) ?_
  refine rk_put C H.2.2.1 (hc_X2 H) (k := 4) (Nat.le_of_ble_eq_true rfl) in_X2 (ty0 := tyX2) tyX2_ok nmX2 q201 (fun _ h => h) (Or.inl rfl) rfl rfl dX2_cancels_29 ?_
  refine rk_of (fun _ _ _ _ _ k => lv_iload_n hx hb dX2_cancels_32 rfl (lv_at hl 0 rfl) k) ?_
  exact rk_top (rf_iret C rfl dX2_cancels_33)
theorem hd_X1_lambda_cancel_2 : yX1_lambda_cancel_2.cls ≠ "java/lang/invoke/MethodHandle" ∧ yX1_lambda_cancel_2.cls ≠ "java/lang/invoke/VarHandle" ∧ (parseMethodDescriptor yX1_lambda_cancel_2.desc).map (fun d => d.parameters.length) = some 2 := by decide +kernel
noncomputable def fn_X1_lambda_cancel_2 (K : zm_K) (a0 : Int32) (a1 : zm_R) : zm_M Int32 :=
  zm_bnd (zm_bnd (zm_is a1 19) fun _ => fn_X2_cancels K a1 a0) fun v2 =>
  zm_ret v2
theorem ct_X1_lambda_cancel_2 {l : Launch} {Ω : zm_W} {K : zm_K} (H : zm_H Ω K) (a0 : Int32) (a1 : zm_R) : zm_Ct l Ω yX1_lambda_cancel_2 (ws_ yX1_lambda_cancel_2 cX1_lambda_cancel_2 2 (Option.some Jvm.ClassFile.FieldType.int)) 13 318 [.int a0, va_rf a1] zm_tvI (fn_X1_lambda_cancel_2 K a0 a1) := by
  refine zm_ct H.1 (by decide +kernel) (zl_le (zl_I (zl_R zl_nil)) (Nat.le_of_ble_eq_true rfl)) ?_
  intro p e R s m args below meth c n0 k0 C hX ls hl
  have hx := C.1
  have hb := C.2.1
  simp only [zg_I, zg_R, zg_nil] at hl
  have hl : lv_has ls 2 [(0, .int a0), (1, va_rf a1)] := hl
  refine rk_rf ?_
  unfold fn_X1_lambda_cancel_2
  refine rk_of (fun _ _ _ _ _ k => lr_aload_n hx hb dX1_lambda_cancel_2_0 rfl (lv_at hl 1 rfl) (lv_iload_n hx hb dX1_lambda_cancel_2_1 rfl (lv_at hl 0 rfl) k)) ?_
  refine rk_callI hX (cl_V (rest := []) (av := [.int a0]) C (hc_X2 H) (ct_X2_cancels H a1 a0) (lw_V q1466 q1467 q1468 q102 q1469) ⟨rfl, hd_X2_cancels⟩ ⟨(Nat.le_of_ble_eq_true rfl), (Nat.le_of_ble_eq_true rfl)⟩ rfl hl.1 rfl (zw_le zw_nil (Nat.le_of_ble_eq_true rfl)) dX1_lambda_cancel_2_2) (fun v2 => ?_)
  exact rk_top (rf_iret C rfl dX1_lambda_cancel_2_5)
theorem hd_X6_span : yX6_span.cls ≠ "java/lang/invoke/MethodHandle" ∧ yX6_span.cls ≠ "java/lang/invoke/VarHandle" ∧ (parseMethodDescriptor yX6_span.desc).map (fun d => d.parameters.length) = some 0 := by decide +kernel
noncomputable def fn_X6_span (K : zm_K) (a0 : zm_R) : zm_M zm_R :=
  zm_bnd (zm_getR a0 23 2) fun v1 =>
  zm_ret v1
theorem ct_X6_span {l : Launch} {Ω : zm_W} {K : zm_K} (H : zm_H Ω K) (a0 : zm_R) : zm_Ct l Ω yX6_span (ws_ yX6_span cX6_span 1 (Option.some (Jvm.ClassFile.FieldType.object "BoxSpans$Span"))) 1 64 [va_rf a0] zm_tvR (fn_X6_span K a0) := by
  refine zm_ct H.1 (by decide +kernel) (zl_le (zl_R zl_nil) (Nat.le_of_ble_eq_true rfl)) ?_
  intro p e R s m args below meth c n0 k0 C hX ls hl
  have hx := C.1
  have hb := C.2.1
  simp only [zg_R, zg_nil] at hl
  have hl : lv_has ls 1 [(0, va_rf a0)] := hl
  refine rk_rf ?_
  unfold fn_X6_span
  refine rk_of (fun _ _ _ _ _ k => lr_aload_n hx hb dX6_span_0 rfl (lv_at hl 0 rfl) k) ?_
  refine rk_get zm_rdR_eq C (hc_X6 H) (k := 2) (Nat.le_of_ble_eq_true rfl) in_X6 q1322 (fun _ h => h) dX6_span_1 (fun v1 => ?_)
  exact rk_top (rf_aret C (Or.inl ⟨_, rfl⟩) dX6_span_4)
theorem hd_X5_later : yX5_later.cls ≠ "java/lang/invoke/MethodHandle" ∧ yX5_later.cls ≠ "java/lang/invoke/VarHandle" ∧ (parseMethodDescriptor yX5_later.desc).map (fun d => d.parameters.length) = some 1 := by decide +kernel
noncomputable def fn_X5_later (K : zm_K) (a0 : zm_R) (a1 : Int32) : zm_M zm_R :=
  zm_bnd (zm_new 22 [.int 0, .int 0]) fun v0 =>
  zm_bnd (zm_getI a0 22 0) fun v5 =>
  zm_bnd (zm_getI a0 22 1) fun v11 =>
  zm_bnd (fn_X5_init K (some v0) (v5 + a1) (v11 + a1)) fun _ =>
  zm_ret (some v0)
theorem ct_X5_later {l : Launch} {Ω : zm_W} {K : zm_K} (H : zm_H Ω K) (a0 : zm_R) (a1 : Int32) : zm_Ct l Ω yX5_later (ws_ yX5_later cX5_later 2 (Option.some (Jvm.ClassFile.FieldType.object "BoxSpans$Span"))) 3 106 [va_rf a0, .int a1] zm_tvR (fn_X5_later K a0 a1) := by
  refine zm_ct H.1 (by decide +kernel) (zl_le (zl_R (zl_I zl_nil)) (Nat.le_of_ble_eq_true rfl)) ?_
  intro p e R s m args below meth c n0 k0 C hX ls hl
  have hx := C.1
  have hb := C.2.1
  simp only [zg_I, zg_R, zg_nil] at hl
  have hl : lv_has ls 2 [(0, va_rf a0), (1, .int a1)] := hl
  refine rk_rf ?_
  unfold fn_X5_later
  refine rk_new C (hc_X5 H) in_X5 tyX5_ok q1503 q808 q135 (fs := [.int 0, .int 0]) rfl (fun j hj => zdf_X5 j hj) dX5_later_0 (fun v0 => ?_)
  refine rk_of (fun _ _ _ _ _ k => lv_dup hx hb dX5_later_3 (va_rf_cat _) (lr_aload_n hx hb dX5_later_4 rfl (lv_at hl 0 rfl) k)) ?_
  refine rk_get zm_rdI_eq C (hc_X5 H) (k := 0) (Nat.le_of_ble_eq_true rfl) in_X5 q822 (fun _ h => h) dX5_later_5 (fun v5 => ?_)
  refine rk_of (fun _ _ _ _ _ k => lv_iload_n hx hb dX5_later_8 rfl (lv_at hl 1 rfl) (lv_iadd hx hb dX5_later_9 (lr_aload_n hx hb dX5_later_10 rfl (lv_at hl 0 rfl) k))) ?_
  refine rk_get zm_rdI_eq C (hc_X5 H) (k := 1) (Nat.le_of_ble_eq_true rfl) in_X5 q823 (fun _ h => h) dX5_later_11 (fun v11 => ?_)
  refine rk_of (fun _ _ _ _ _ k => lv_iload_n hx hb dX5_later_14 rfl (lv_at hl 1 rfl) (lv_iadd hx hb dX5_later_15 k)) ?_
  refine rk_callV hX (cl_I (rest := [va_rf (some v0)]) C (ct_X5_init H (some v0) (v5 + a1) (v11 + a1)) (lw_meth q820) q135 q1504 q819 rfl hd_X5_init ⟨(Nat.le_of_ble_eq_true rfl), (Nat.le_of_ble_eq_true rfl)⟩ rfl hl.1 rfl (zw_le (zw_R zw_nil) (Nat.le_of_ble_eq_true rfl)) dX5_later_16) (fun _ => ?_)
  exact rk_top (rf_aret C (Or.inl ⟨_, rfl⟩) dX5_later_19)
theorem hd_X5_outside : yX5_outside.cls ≠ "java/lang/invoke/MethodHandle" ∧ yX5_outside.cls ≠ "java/lang/invoke/VarHandle" ∧ (parseMethodDescriptor yX5_outside.desc).map (fun d => d.parameters.length) = some 0 := by decide +kernel
noncomputable def fn_X5_outside (K : zm_K) (a0 : zm_R) : zm_M Int32 :=
  zm_bnd (zm_bnd (zm_is a0 22) fun _ => fn_X7_length K a0) fun v1 =>
  zm_bnd (zm_getI a0 22 0) fun v6 =>
  zm_bnd (zm_ret (if (0 < (-v6) : Prop) then ((-v6) : Int32) else 0)) fun v10 =>
  zm_bnd (zm_getI a0 22 1) fun v14 =>
  zm_bnd (zm_ret (if (v10 < (v14 - 600) : Prop) then ((v14 - 600) : Int32) else v10)) fun v21 =>
  zm_bnd (zm_ret (if (v21 < v1 : Prop) then (v21 : Int32) else v1)) fun v24 =>
  zm_ret v24
theorem ct_X5_outside {l : Launch} {Ω : zm_W} {K : zm_K} (H : zm_H Ω K) (a0 : zm_R) : zm_Ct l Ω yX5_outside (ws_ yX5_outside cX5_outside 1 (Option.some Jvm.ClassFile.FieldType.int)) 4 128 [va_rf a0] zm_tvI (fn_X5_outside K a0) := by
  refine zm_ct H.1 (by decide +kernel) (zl_le (zl_R zl_nil) (Nat.le_of_ble_eq_true rfl)) ?_
  intro p e R s m args below meth c n0 k0 C hX ls hl
  have hx := C.1
  have hb := C.2.1
  simp only [zg_R, zg_nil] at hl
  have hl : lv_has ls 1 [(0, va_rf a0)] := hl
  refine rk_rf ?_
  unfold fn_X5_outside
  refine rk_of (fun _ _ _ _ _ k => lr_aload_n hx hb dX5_outside_0 rfl (lv_at hl 0 rfl) k) ?_
  refine rk_callI hX (cl_D (n := 0) (rest := []) (av := []) C (hc_X5 H) (ct_X7_length H a0) (lw_meth q1113) q140 ((zh_df H).choose_spec.1 _ (List.mem_of_getElem? (i := 7) rfl)) ((zh_df H).choose_spec.1 _ (List.mem_of_getElem? (i := 8) rfl)) ((zh_df H).choose_spec.2 _ (List.mem_of_getElem? (i := 3) rfl)) (zn_wD H C q1109) q1111 (by decide) (by decide +kernel) ⟨(Nat.le_of_ble_eq_true rfl), (Nat.le_of_ble_eq_true rfl)⟩ rfl hl.1 rfl (zw_le zw_nil (Nat.le_of_ble_eq_true rfl)) dX5_outside_1) (fun v1 => ?_)
  refine rk_of (fun _ _ _ _ _ k => lv_iconst (v := 0) hx hb dX5_outside_4 rfl (lr_aload_n hx hb dX5_outside_5 rfl (lv_at hl 0 rfl) k)) ?_
  refine rk_get zm_rdI_eq C (hc_X5 H) (k := 0) (Nat.le_of_ble_eq_true rfl) in_X5 q822 (fun _ h => h) dX5_outside_6 (fun v6 => ?_)
  refine rk_of (fun _ _ _ _ _ k => lv_ineg hx hb dX5_outside_9 k) ?_
  refine rk_mmax C hl.1 q1510 q436 q122 q437 (Nat.le_of_ble_eq_true rfl) (zw_ad (zw_I zw_nil) (Nat.le_of_ble_eq_true rfl)) dX5_outside_10 (fun v10 => ?_)
  refine rk_of (fun _ _ _ _ _ k => lr_aload_n hx hb dX5_outside_13 rfl (lv_at hl 0 rfl) k) ?_
  refine rk_get zm_rdI_eq C (hc_X5 H) (k := 1) (Nat.le_of_ble_eq_true rfl) in_X5 q823 (fun _ h => h) dX5_outside_14 (fun v14 => ?_)
  refine rk_of (fun _ _ _ _ _ k => lv_sipush (v := 600) hx hb dX5_outside_17 rfl (lv_isub hx hb dX5_outside_20 k)) ?_
  refine rk_mmax C hl.1 q1510 q436 q122 q437 (Nat.le_of_ble_eq_true rfl) (zw_ad (zw_I zw_nil) (Nat.le_of_ble_eq_true rfl)) dX5_outside_21 (fun v21 => ?_)
  refine rk_mmin C hl.1 q1511 q454 q122 q455 (Nat.le_of_ble_eq_true rfl) (zw_ad zw_nil (Nat.le_of_ble_eq_true rfl)) dX5_outside_24 (fun v24 => ?_)
  exact rk_top (rf_iret C rfl dX5_outside_27)
theorem hd_X6_box : yX6_box.cls ≠ "java/lang/invoke/MethodHandle" ∧ yX6_box.cls ≠ "java/lang/invoke/VarHandle" ∧ (parseMethodDescriptor yX6_box.desc).map (fun d => d.parameters.length) = some 0 := by decide +kernel
noncomputable def fn_X6_box (K : zm_K) (a0 : zm_R) : zm_M Int32 :=
  zm_bnd (zm_getI a0 23 0) fun v1 =>
  zm_ret v1
theorem ct_X6_box {l : Launch} {Ω : zm_W} {K : zm_K} (H : zm_H Ω K) (a0 : zm_R) : zm_Ct l Ω yX6_box (ws_ yX6_box cX6_box 1 (Option.some Jvm.ClassFile.FieldType.int)) 1 64 [va_rf a0] zm_tvI (fn_X6_box K a0) := by
  refine zm_ct H.1 (by decide +kernel) (zl_le (zl_R zl_nil) (Nat.le_of_ble_eq_true rfl)) ?_
  intro p e R s m args below meth c n0 k0 C hX ls hl
  have hx := C.1
  have hb := C.2.1
  simp only [zg_R, zg_nil] at hl
  have hl : lv_has ls 1 [(0, va_rf a0)] := hl
  refine rk_rf ?_
  unfold fn_X6_box
  refine rk_of (fun _ _ _ _ _ k => lr_aload_n hx hb dX6_box_0 rfl (lv_at hl 0 rfl) k) ?_
  refine rk_get zm_rdI_eq C (hc_X6 H) (k := 0) (Nat.le_of_ble_eq_true rfl) in_X6 q1320 (fun _ h => h) dX6_box_1 (fun v1 => ?_)
  exact rk_top (rf_iret C rfl dX6_box_4)
theorem hd_X6_becomes : yX6_becomes.cls ≠ "java/lang/invoke/MethodHandle" ∧ yX6_becomes.cls ≠ "java/lang/invoke/VarHandle" ∧ (parseMethodDescriptor yX6_becomes.desc).map (fun d => d.parameters.length) = some 1 := by decide +kernel
noncomputable def fn_X6_becomes (K : zm_K) (a0 : zm_R) (a1 : zm_R) : zm_M Unit :=
  zm_bnd (zm_putF K a0 23 2 (va_rf a1)) fun _ =>
  zm_ret ()
theorem ct_X6_becomes {l : Launch} {Ω : zm_W} {K : zm_K} (H : zm_H Ω K) (a0 : zm_R) (a1 : zm_R) : zm_Ct l Ω yX6_becomes (ws_ yX6_becomes cX6_becomes 2 (Option.none : Option Jvm.ClassFile.FieldType)) 1 64 [va_rf a0, va_rf a1] zm_tvV (fn_X6_becomes K a0 a1) := by
  refine zm_ct H.1 (by decide +kernel) (zl_le (zl_R (zl_R zl_nil)) (Nat.le_of_ble_eq_true rfl)) ?_
  intro p e R s m args below meth c n0 k0 C hX ls hl
  have hx := C.1
  have hb := C.2.1
  simp only [zg_R, zg_nil] at hl
  have hl : lv_has ls 2 [(0, va_rf a0), (1, va_rf a1)] := hl
  refine rk_rf ?_
  unfold fn_X6_becomes
  refine rk_of (fun _ _ _ _ _ k => lr_aload_n hx hb dX6_becomes_0 rfl (lv_at hl 0 rfl) (lr_aload_n hx hb dX6_becomes_1 rfl (lv_at hl 1 rfl) k)) ?_
  refine rk_put C H.2.2.1 (hc_X6 H) (k := 2) (Nat.le_of_ble_eq_true rfl) in_X6 (ty0 := tyX6) tyX6_ok nmX6 q1322 (fun _ h => h) (Or.inl rfl) (zn_R rfl _) (zp_R rfl _) dX6_becomes_2 ?_
  exact rk_top (rf_vret C dX6_becomes_5)
theorem hd_X2_moves : yX2_moves.cls ≠ "java/lang/invoke/MethodHandle" ∧ yX2_moves.cls ≠ "java/lang/invoke/VarHandle" ∧ (parseMethodDescriptor yX2_moves.desc).map (fun d => d.parameters.length) = some 2 := by decide +kernel
noncomputable def fn_X2_moves (K : zm_K) (a0 : zm_R) (a1 : Int32) (a2 : Int32) : zm_M Int32 :=
  zm_bnd (zm_bnd (zm_is a0 19) fun _ => fn_X2_checkLetting K a0 a1) fun _ =>
  zm_bnd (zm_bnd (zm_is a0 19) fun _ => fn_X2_letting K a0 a1) fun v7 =>
  zm_bnd (zm_bnd (zm_is v7 23) fun _ => fn_X6_span K v7) fun v12 =>
  zm_bnd (zm_bnd (zm_is v12 22) fun _ => fn_X5_later K v12 a2) fun v16 =>
  zm_bnd (zm_bnd (zm_is v16 22) fun _ => fn_X5_outside K v16) fun v23 =>
  zm_bnd (α := Int32) (
      if v23 = 0 then
        zm_ret 1
      else
        zm_ret 0
    ) fun b34 =>
  zm_bnd (zm_bnd (zm_is v16 22) fun _ => fn_X5_outside K v16) fun v37 =>
  zm_bnd (fn_X1_meet K b34 5 v37) fun _ =>
  zm_bnd (zm_bnd (zm_is v7 23) fun _ => fn_X6_box K v7) fun v45 =>
  zm_bnd (zm_bnd (zm_is a0 19) fun _ => fn_X2_checkFree K a0 v45 v16 a1) fun _ =>
  zm_bnd (zm_bnd (zm_is v7 23) fun _ => fn_X6_becomes K v7 v16) fun _ =>
  zm_bnd (zm_bnd (zm_is v16 22) fun _ => fn_X5_from K v16) fun v62 =>
  zm_ret v62
theorem ct_X2_moves {l : Launch} {Ω : zm_W} {K : zm_K} (H : zm_H Ω K) (a0 : zm_R) (a1 : Int32) (a2 : Int32) : zm_Ct l Ω yX2_moves (ws_ yX2_moves cX2_moves 5 (Option.some Jvm.ClassFile.FieldType.int)) 13 325 [va_rf a0, .int a1, .int a2] zm_tvI (fn_X2_moves K a0 a1 a2) := by
  refine zm_ct H.1 (by decide +kernel) (zl_le (zl_R (zl_I (zl_I zl_nil))) (Nat.le_of_ble_eq_true rfl)) ?_
  intro p e R s m args below meth c n0 k0 C hX ls hl
  have hx := C.1
  have hb := C.2.1
  simp only [zg_I, zg_R, zg_nil] at hl
  have hl : lv_has ls 5 [(0, va_rf a0), (1, .int a1), (2, .int a2)] := hl
  refine rk_rf ?_
  unfold fn_X2_moves
  refine rk_of (fun _ _ _ _ _ k => lr_aload_n hx hb dX2_moves_0 rfl (lv_at hl 0 rfl) (lv_iload_n hx hb dX2_moves_1 rfl (lv_at hl 1 rfl) k)) ?_
  refine rk_callV hX (cl_V (rest := []) (av := [.int a1]) C (hc_X2 H) (ct_X2_checkLetting H a0 a1) (lw_V q1470 q1472 qs20 q102 q1473) ⟨rfl, hd_X2_checkLetting⟩ ⟨(Nat.le_of_ble_eq_true rfl), (Nat.le_of_ble_eq_true rfl)⟩ rfl hl.1 rfl (zw_le zw_nil (Nat.le_of_ble_eq_true rfl)) dX2_moves_2) (fun _ => ?_)
  refine rk_of (fun _ _ _ _ _ k => lr_aload_n hx hb dX2_moves_5 rfl (lv_at hl 0 rfl) (lv_iload_n hx hb dX2_moves_6 rfl (lv_at hl 1 rfl) k)) ?_
  refine rk_callR hX (cl_V (rest := []) (av := [.int a1]) C (hc_X2 H) (ct_X2_letting H a0 a1) (lw_V q1090 q1091 q1092 q102 q1093) ⟨rfl, hd_X2_letting⟩ ⟨(Nat.le_of_ble_eq_true rfl), (Nat.le_of_ble_eq_true rfl)⟩ rfl hl.1 rfl (zw_le zw_nil (Nat.le_of_ble_eq_true rfl)) dX2_moves_7) (fun v7 => ?_)
  refine rk_ofs (fun _ _ _ _ _ k => lr_astore_n hx hb dX2_moves_10 rfl hl (Nat.le_of_ble_eq_true rfl) [0, 1, 2] rfl ⟨trivial, ⟨trivial, ⟨rfl, trivial⟩⟩⟩ k) (fun ls hl => ?_)
  refine rk_of (fun _ _ _ _ _ k => lr_aload_n hx hb dX2_moves_11 rfl (lv_at hl 0 rfl) k) ?_
  refine rk_callR hX (cl_V (rest := []) (av := []) C (hc_X6 H) (ct_X6_span H v7) (lw_V q1495 q1496 q1497 q137 q1498) ⟨rfl, hd_X6_span⟩ ⟨(Nat.le_of_ble_eq_true rfl), (Nat.le_of_ble_eq_true rfl)⟩ rfl hl.1 rfl (zw_le zw_nil (Nat.le_of_ble_eq_true rfl)) dX2_moves_12) (fun v12 => ?_)
  refine rk_of (fun _ _ _ _ _ k => lv_iload_n hx hb dX2_moves_15 rfl (lv_at hl 3 rfl) k) ?_
  refine rk_callR hX (cl_V (rest := []) (av := [.int a2]) C (hc_X5 H) (ct_X5_later H v12 a2) (lw_V q1499 q1500 q1501 q135 q1502) ⟨rfl, hd_X5_later⟩ ⟨(Nat.le_of_ble_eq_true rfl), (Nat.le_of_ble_eq_true rfl)⟩ rfl hl.1 rfl (zw_le zw_nil (Nat.le_of_ble_eq_true rfl)) dX2_moves_16) (fun v16 => ?_)
  refine rk_ofs (fun _ _ _ _ _ k => lr_astore hx hb dX2_moves_19 hl (Nat.le_of_ble_eq_true rfl) [0, 1, 2] rfl ⟨(by first | exact va_rf_cat _ | rfl), ⟨trivial, ⟨trivial, trivial⟩⟩⟩ k) (fun ls hl => ?_)
  refine rk_of (fun _ _ _ _ _ k => lr_aload hx hb dX2_moves_21 (lv_at hl 0 rfl) k) ?_
  refine rk_callI hX (cl_V (rest := []) (av := []) C (hc_X5 H) (ct_X5_outside H v16) (lw_V q1505 q1506 q1507 q135 q1508) ⟨rfl, hd_X5_outside⟩ ⟨(Nat.le_of_ble_eq_true rfl), (Nat.le_of_ble_eq_true rfl)⟩ rfl hl.1 rfl (zw_le zw_nil (Nat.le_of_ble_eq_true rfl)) dX2_moves_23) (fun v23 => ?_)
  refine rk_join (β := Int32) (fun (b34 : Int32) ls => lv_has ls 5 [(0, va_rf a0), (1, .int a1), (3, va_rf v7), (4, va_rf v16)]) (fun (b34 : Int32) ls => F0 m 34 ls [.int b34]) (fun b34 ls hl => ?_) (fun hJ34 => ?_)
  · refine rk_of (fun _ _ _ _ _ k => lv_iconst (v := 5) hx hb dX2_moves_34 rfl (lr_aload hx hb dX2_moves_35 (lv_at hl 3 rfl) k)) ?_
    refine rk_callI hX (cl_V (rest := [.int 5, .int b34]) (av := []) C (hc_X5 H) (ct_X5_outside H v16) (lw_V q1505 q1506 q1507 q135 q1508) ⟨rfl, hd_X5_outside⟩ ⟨(Nat.le_of_ble_eq_true rfl), (Nat.le_of_ble_eq_true rfl)⟩ rfl hl.1 rfl (zw_le (zw_I (zw_I zw_nil)) (Nat.le_of_ble_eq_true rfl)) dX2_moves_37) (fun v37 => ?_)
    refine rk_callV hX (cl_SN (rest := []) C (ct_X1_meet H b34 5 v37) (lw_meth q1151) q101 (zn_wM H C q1149) q1150 hd_X1_meet ⟨(Nat.le_of_ble_eq_true rfl), (Nat.le_of_ble_eq_true rfl)⟩ rfl hl.1 rfl (zw_le zw_nil (Nat.le_of_ble_eq_true rfl)) dX2_moves_40) (fun _ => ?_)
    refine rk_of (fun _ _ _ _ _ k => lr_aload_n hx hb dX2_moves_43 rfl (lv_at hl 0 rfl) (lr_aload_n hx hb dX2_moves_44 rfl (lv_at hl 2 rfl) k)) ?_
    refine rk_callI hX (cl_V (rest := [va_rf a0]) (av := []) C (hc_X6 H) (ct_X6_box H v7) (lw_V q1512 q1513 q1514 q137 q1515) ⟨rfl, hd_X6_box⟩ ⟨(Nat.le_of_ble_eq_true rfl), (Nat.le_of_ble_eq_true rfl)⟩ rfl hl.1 rfl (zw_le (zw_R zw_nil) (Nat.le_of_ble_eq_true rfl)) dX2_moves_45) (fun v45 => ?_)
    refine rk_of (fun _ _ _ _ _ k => lr_aload hx hb dX2_moves_48 (lv_at hl 3 rfl) (lv_iload_n hx hb dX2_moves_50 rfl (lv_at hl 1 rfl) k)) ?_
    refine rk_callV hX (cl_V (rest := []) (av := [.int v45, va_rf v16, .int a1]) C (hc_X2 H) (ct_X2_checkFree H a0 v45 v16 a1) (lw_V q1429 q1431 qs16 q102 q1432) ⟨rfl, hd_X2_checkFree⟩ ⟨(Nat.le_of_ble_eq_true rfl), (Nat.le_of_ble_eq_true rfl)⟩ rfl hl.1 rfl (zw_le zw_nil (Nat.le_of_ble_eq_true rfl)) dX2_moves_51) (fun _ => ?_)
    refine rk_of (fun _ _ _ _ _ k => lr_aload_n hx hb dX2_moves_54 rfl (lv_at hl 2 rfl) (lr_aload hx hb dX2_moves_55 (lv_at hl 3 rfl) k)) ?_
    refine rk_callV hX (cl_V (rest := []) (av := [va_rf v16]) C (hc_X6 H) (ct_X6_becomes H v7 v16) (lw_V q1516 q1517 q1518 q137 q1519) ⟨rfl, hd_X6_becomes⟩ ⟨(Nat.le_of_ble_eq_true rfl), (Nat.le_of_ble_eq_true rfl)⟩ rfl hl.1 rfl (zw_le zw_nil (Nat.le_of_ble_eq_true rfl)) dX2_moves_57) (fun _ => ?_)
    refine rk_of (fun _ _ _ _ _ k => lr_aload hx hb dX2_moves_60 (lv_at hl 3 rfl) k) ?_
    refine rk_callI hX (cl_V (rest := []) (av := []) C (hc_X5 H) (ct_X5_from H v16) (lw_V q1520 q1011 q1012 q135 q1013) ⟨rfl, hd_X5_from⟩ ⟨(Nat.le_of_ble_eq_true rfl), (Nat.le_of_ble_eq_true rfl)⟩ rfl hl.1 rfl (zw_le zw_nil (Nat.le_of_ble_eq_true rfl)) dX2_moves_62) (fun v62 => ?_)
    exact rk_top (rf_iret C rfl dX2_moves_65)
  · refine rk_ite (fun _ _ _ _ _ k1 k2 => lv_if_ne (tgt := 33) hx hb dX2_moves_26 (by decide) k2 k1) (fun c_26 => ?_) (fun c_26 => ?_)
    · refine rk_of (fun _ _ _ _ _ k => lv_iconst (v := 1) hx hb dX2_moves_29 rfl (lv_goto (tgt := 34) hx hb dX2_moves_30 (by decide) k)) ?_
      exact hJ34 1 ls (lv_sub hl [2, 3, 1, 0] rfl)
    · refine rk_of (fun _ _ _ _ _ k => lv_iconst (v := 0) hx hb dX2_moves_33 rfl k) ?_
      exact hJ34 0 ls (lv_sub hl [2, 3, 1, 0] rfl)
theorem hd_X1_lambda_move_3 : yX1_lambda_move_3.cls ≠ "java/lang/invoke/MethodHandle" ∧ yX1_lambda_move_3.cls ≠ "java/lang/invoke/VarHandle" ∧ (parseMethodDescriptor yX1_lambda_move_3.desc).map (fun d => d.parameters.length) = some 3 := by decide +kernel
noncomputable def fn_X1_lambda_move_3 (K : zm_K) (a0 : Int32) (a1 : Int32) (a2 : zm_R) : zm_M Int32 :=
  zm_bnd (zm_bnd (zm_is a2 19) fun _ => fn_X2_moves K a2 a0 a1) fun v3 =>
  zm_ret v3
theorem ct_X1_lambda_move_3 {l : Launch} {Ω : zm_W} {K : zm_K} (H : zm_H Ω K) (a0 : Int32) (a1 : Int32) (a2 : zm_R) : zm_Ct l Ω yX1_lambda_move_3 (ws_ yX1_lambda_move_3 cX1_lambda_move_3 3 (Option.some Jvm.ClassFile.FieldType.int)) 14 349 [.int a0, .int a1, va_rf a2] zm_tvI (fn_X1_lambda_move_3 K a0 a1 a2) := by
  refine zm_ct H.1 (by decide +kernel) (zl_le (zl_I (zl_I (zl_R zl_nil))) (Nat.le_of_ble_eq_true rfl)) ?_
  intro p e R s m args below meth c n0 k0 C hX ls hl
  have hx := C.1
  have hb := C.2.1
  simp only [zg_I, zg_R, zg_nil] at hl
  have hl : lv_has ls 3 [(0, .int a0), (1, .int a1), (2, va_rf a2)] := hl
  refine rk_rf ?_
  unfold fn_X1_lambda_move_3
  refine rk_of (fun _ _ _ _ _ k => lr_aload_n hx hb dX1_lambda_move_3_0 rfl (lv_at hl 2 rfl) (lv_iload_n hx hb dX1_lambda_move_3_1 rfl (lv_at hl 0 rfl) (lv_iload_n hx hb dX1_lambda_move_3_2 rfl (lv_at hl 1 rfl) k))) ?_
  refine rk_callI hX (cl_V (rest := []) (av := [.int a0, .int a1]) C (hc_X2 H) (ct_X2_moves H a2 a0 a1) (lw_V q1491 q1492 q1493 q102 q1494) ⟨rfl, hd_X2_moves⟩ ⟨(Nat.le_of_ble_eq_true rfl), (Nat.le_of_ble_eq_true rfl)⟩ rfl hl.1 rfl (zw_le zw_nil (Nat.le_of_ble_eq_true rfl)) dX1_lambda_move_3_3) (fun v3 => ?_)
  exact rk_top (rf_iret C rfl dX1_lambda_move_3_6)
theorem hd_X7_has : yX7_has.cls ≠ "java/lang/invoke/MethodHandle" ∧ yX7_has.cls ≠ "java/lang/invoke/VarHandle" ∧ (parseMethodDescriptor yX7_has.desc).map (fun d => d.parameters.length) = some 1 := by decide +kernel
noncomputable def fn_X7_has (K : zm_K) (a0 : zm_R) (a1 : Int32) : zm_M Int32 :=
  zm_bnd (zm_bnd (zm_cls a0) fun ci => if ci = 23 then fn_X6_from K a0 else if ci = 22 then fn_X5_from K a0 else if ci = 24 then fn_X8_from K a0 else zm_fl) fun v1 =>
  if a1 < v1 then
    zm_ret 0
  else
    zm_bnd (zm_bnd (zm_cls a0) fun ci => if ci = 23 then fn_X6_to K a0 else if ci = 22 then fn_X5_to K a0 else if ci = 24 then fn_X8_to K a0 else zm_fl) fun v12 =>
    if v12 ≤ a1 then
      zm_ret 0
    else
      zm_ret 1
theorem ct_X7_has {l : Launch} {Ω : zm_W} {K : zm_K} (H : zm_H Ω K) (a0 : zm_R) (a1 : Int32) : zm_Ct l Ω yX7_has (ws_ yX7_has cX7_has 2 (Option.some Jvm.ClassFile.FieldType.boolean)) 3 104 [va_rf a0, .int a1] zm_tvI (fn_X7_has K a0 a1) := by
  refine zm_ct H.1 (by decide +kernel) (zl_le (zl_R (zl_I zl_nil)) (Nat.le_of_ble_eq_true rfl)) ?_
  intro p e R s m args below meth c n0 k0 C hX ls hl
  have hx := C.1
  have hb := C.2.1
  simp only [zg_I, zg_R, zg_nil] at hl
  have hl : lv_has ls 2 [(0, va_rf a0), (1, .int a1)] := hl
  refine rk_rf ?_
  unfold fn_X7_has
  refine rk_of (fun _ _ _ _ _ k => lr_aload_n hx hb dX7_has_0 rfl (lv_at hl 0 rfl) k) ?_
  refine rk_callI hX (cl_dsp (fun ci => cl_case (cl_F (n := 0) (rest := []) (av := []) C (hc_X6 H) (ct_X6_from H a0) (lw_F q1001 q1005 q1007 q137 q1009) (zh_Fw H C (by decide) q1003 q1002 q1008 q1006 q1004) (by decide +kernel) ⟨(Nat.le_of_ble_eq_true rfl), (Nat.le_of_ble_eq_true rfl)⟩ rfl hl.1 rfl (zw_le zw_nil (Nat.le_of_ble_eq_true rfl)) dX7_has_1) (cl_case (cl_F (n := 0) (rest := []) (av := []) C (hc_X5 H) (ct_X5_from H a0) (lw_F q1001 q1015 q1011 q135 q1013) (zh_Fw H C (by decide) q1003 q1002 q1017 q1016 q1014) (by decide +kernel) ⟨(Nat.le_of_ble_eq_true rfl), (Nat.le_of_ble_eq_true rfl)⟩ rfl hl.1 rfl (zw_le zw_nil (Nat.le_of_ble_eq_true rfl)) dX7_has_1) (cl_case (cl_F (n := 0) (rest := []) (av := []) C (hc_X8 H) (ct_X8_from H a0) (lw_F q1001 q1019 q1021 q141 q1023) (zh_Fw H C (by decide) q1003 q1002 q1022 q1020 q1018) (by decide +kernel) ⟨(Nat.le_of_ble_eq_true rfl), (Nat.le_of_ble_eq_true rfl)⟩ rfl hl.1 rfl (zw_le zw_nil (Nat.le_of_ble_eq_true rfl)) dX7_has_1) (cl_fl))))) (fun v1 => ?_)
  refine rk_ite (fun _ _ _ _ _ k1 k2 => lv_iload_n hx hb dX7_has_6 rfl (lv_at hl 1 rfl) (lv_icmp_gt (tgt := 24) hx hb dX7_has_7 (by decide) k1 k2)) (fun c_7 => ?_) (fun c_7 => ?_)
  · refine rk_of (fun _ _ _ _ _ k => lv_iconst (v := 0) hx hb dX7_has_24 rfl k) ?_
    exact rk_top (rf_iret C rfl dX7_has_25)
  · refine rk_of (fun _ _ _ _ _ k => lv_iload_n hx hb dX7_has_10 rfl (lv_at hl 1 rfl) (lr_aload_n hx hb dX7_has_11 rfl (lv_at hl 0 rfl) k)) ?_
    refine rk_callI hX (cl_dsp (fun ci => cl_case (cl_F (n := 0) (rest := [.int a1]) (av := []) C (hc_X6 H) (ct_X6_to H a0) (lw_F q1026 q1029 q1031 q137 q1033) (zh_Fw H C (by decide) q1028 q1027 q1032 q1030 q1004) (by decide +kernel) ⟨(Nat.le_of_ble_eq_true rfl), (Nat.le_of_ble_eq_true rfl)⟩ rfl hl.1 rfl (zw_le (zw_I zw_nil) (Nat.le_of_ble_eq_true rfl)) dX7_has_12) (cl_case (cl_F (n := 0) (rest := [.int a1]) (av := []) C (hc_X5 H) (ct_X5_to H a0) (lw_F q1026 q1035 q830 q135 q832) (zh_Fw H C (by decide) q1028 q1027 q1037 q1036 q1014) (by decide +kernel) ⟨(Nat.le_of_ble_eq_true rfl), (Nat.le_of_ble_eq_true rfl)⟩ rfl hl.1 rfl (zw_le (zw_I zw_nil) (Nat.le_of_ble_eq_true rfl)) dX7_has_12) (cl_case (cl_F (n := 0) (rest := [.int a1]) (av := []) C (hc_X8 H) (ct_X8_to H a0) (lw_F q1026 q1038 q1040 q141 q1042) (zh_Fw H C (by decide) q1028 q1027 q1041 q1039 q1018) (by decide +kernel) ⟨(Nat.le_of_ble_eq_true rfl), (Nat.le_of_ble_eq_true rfl)⟩ rfl hl.1 rfl (zw_le (zw_I zw_nil) (Nat.le_of_ble_eq_true rfl)) dX7_has_12) (cl_fl))))) (fun v12 => ?_)
    refine rk_ite (fun _ _ _ _ _ k1 k2 => lv_icmp_ge (tgt := 24) hx hb dX7_has_17 (by decide) k1 k2) (fun c_17 => ?_) (fun c_17 => ?_)
    · refine rk_of (fun _ _ _ _ _ k => lv_iconst (v := 0) hx hb dX7_has_24 rfl k) ?_
      exact rk_top (rf_iret C rfl dX7_has_25)
    · refine rk_of (fun _ _ _ _ _ k => lv_iconst (v := 1) hx hb dX7_has_20 rfl (lv_goto (tgt := 25) hx hb dX7_has_21 (by decide) k)) ?_
      exact rk_top (rf_iret C rfl dX7_has_25)
theorem hd_X6_party : yX6_party.cls ≠ "java/lang/invoke/MethodHandle" ∧ yX6_party.cls ≠ "java/lang/invoke/VarHandle" ∧ (parseMethodDescriptor yX6_party.desc).map (fun d => d.parameters.length) = some 0 := by decide +kernel
noncomputable def fn_X6_party (K : zm_K) (a0 : zm_R) : zm_M Int32 :=
  zm_bnd (zm_getI a0 23 1) fun v1 =>
  zm_ret v1
theorem ct_X6_party {l : Launch} {Ω : zm_W} {K : zm_K} (H : zm_H Ω K) (a0 : zm_R) : zm_Ct l Ω yX6_party (ws_ yX6_party cX6_party 1 (Option.some Jvm.ClassFile.FieldType.int)) 1 64 [va_rf a0] zm_tvI (fn_X6_party K a0) := by
  refine zm_ct H.1 (by decide +kernel) (zl_le (zl_R zl_nil) (Nat.le_of_ble_eq_true rfl)) ?_
  intro p e R s m args below meth c n0 k0 C hX ls hl
  have hx := C.1
  have hb := C.2.1
  simp only [zg_R, zg_nil] at hl
  have hl : lv_has ls 1 [(0, va_rf a0)] := hl
  refine rk_rf ?_
  unfold fn_X6_party
  refine rk_of (fun _ _ _ _ _ k => lr_aload_n hx hb dX6_party_0 rfl (lv_at hl 0 rfl) k) ?_
  refine rk_get zm_rdI_eq C (hc_X6 H) (k := 1) (Nat.le_of_ble_eq_true rfl) in_X6 q1321 (fun _ h => h) dX6_party_1 (fun v1 => ?_)
  exact rk_top (rf_iret C rfl dX6_party_4)
theorem hd_X2_splits : yX2_splits.cls ≠ "java/lang/invoke/MethodHandle" ∧ yX2_splits.cls ≠ "java/lang/invoke/VarHandle" ∧ (parseMethodDescriptor yX2_splits.desc).map (fun d => d.parameters.length) = some 2 := by decide +kernel
noncomputable def fn_X2_splits (K : zm_K) (a0 : zm_R) (a1 : Int32) (a2 : Int32) : zm_M Int32 :=
  zm_bnd (zm_bnd (zm_is a0 19) fun _ => fn_X2_checkLetting K a0 a1) fun _ =>
  zm_bnd (zm_bnd (zm_is a0 19) fun _ => fn_X2_letting K a0 a1) fun v7 =>
  zm_bnd (zm_bnd (zm_is v7 23) fun _ => fn_X6_from K v7) fun v13 =>
  zm_bnd (α := Int32) (
      if a2 ≤ v13 then
        zm_ret 0
      else
        zm_bnd (zm_bnd (zm_is v7 23) fun _ => fn_X7_has K v7 a2) fun v21 =>
        if v21 = 0 then
          zm_ret 0
        else
          zm_ret 1
    ) fun b32 =>
  zm_bnd (zm_bnd (zm_is v7 23) fun _ => fn_X7_length K v7) fun v35 =>
  zm_bnd (fn_X1_meet K b32 6 v35) fun _ =>
  zm_bnd (zm_new 23 [.int 0, .int 0, .null, .int 0]) fun v42 =>
  zm_bnd (zm_bnd (zm_is v7 23) fun _ => fn_X6_box K v7) fun v47 =>
  zm_bnd (zm_bnd (zm_is v7 23) fun _ => fn_X6_party K v7) fun v51 =>
  zm_bnd (zm_new 22 [.int 0, .int 0]) fun v54 =>
  zm_bnd (zm_bnd (zm_is v7 23) fun _ => fn_X6_to K v7) fun v60 =>
  zm_bnd (fn_X5_init K (some v54) a2 v60) fun _ =>
  zm_bnd (fn_X6_init K (some v42) v47 v51 (some v54)) fun _ =>
  zm_bnd (zm_bnd (zm_is a0 19) fun _ => fn_X2_makes K a0 (some v42)) fun v69 =>
  zm_bnd (zm_new 22 [.int 0, .int 0]) fun v75 =>
  zm_bnd (zm_bnd (zm_is v7 23) fun _ => fn_X6_from K v7) fun v80 =>
  zm_bnd (fn_X5_init K (some v75) v80 a2) fun _ =>
  zm_bnd (zm_bnd (zm_is v7 23) fun _ => fn_X6_becomes K v7 (some v75)) fun _ =>
  zm_ret v69
theorem ct_X2_splits {l : Launch} {Ω : zm_W} {K : zm_K} (H : zm_H Ω K) (a0 : zm_R) (a1 : Int32) (a2 : Int32) : zm_Ct l Ω yX2_splits (ws_ yX2_splits cX2_splits 5 (Option.some Jvm.ClassFile.FieldType.int)) 12 296 [va_rf a0, .int a1, .int a2] zm_tvI (fn_X2_splits K a0 a1 a2) := by
  refine zm_ct H.1 (by decide +kernel) (zl_le (zl_R (zl_I (zl_I zl_nil))) (Nat.le_of_ble_eq_true rfl)) ?_
  intro p e R s m args below meth c n0 k0 C hX ls hl
  have hx := C.1
  have hb := C.2.1
  simp only [zg_I, zg_R, zg_nil] at hl
  have hl : lv_has ls 5 [(0, va_rf a0), (1, .int a1), (2, .int a2)] := hl
  refine rk_rf ?_
  unfold fn_X2_splits
  refine rk_of (fun _ _ _ _ _ k => lr_aload_n hx hb dX2_splits_0 rfl (lv_at hl 0 rfl) (lv_iload_n hx hb dX2_splits_1 rfl (lv_at hl 1 rfl) k)) ?_
  refine rk_callV hX (cl_V (rest := []) (av := [.int a1]) C (hc_X2 H) (ct_X2_checkLetting H a0 a1) (lw_V q1470 q1472 qs20 q102 q1473) ⟨rfl, hd_X2_checkLetting⟩ ⟨(Nat.le_of_ble_eq_true rfl), (Nat.le_of_ble_eq_true rfl)⟩ rfl hl.1 rfl (zw_le zw_nil (Nat.le_of_ble_eq_true rfl)) dX2_splits_2) (fun _ => ?_)
  refine rk_of (fun _ _ _ _ _ k => lr_aload_n hx hb dX2_splits_5 rfl (lv_at hl 0 rfl) (lv_iload_n hx hb dX2_splits_6 rfl (lv_at hl 1 rfl) k)) ?_
  refine rk_callR hX (cl_V (rest := []) (av := [.int a1]) C (hc_X2 H) (ct_X2_letting H a0 a1) (lw_V q1090 q1091 q1092 q102 q1093) ⟨rfl, hd_X2_letting⟩ ⟨(Nat.le_of_ble_eq_true rfl), (Nat.le_of_ble_eq_true rfl)⟩ rfl hl.1 rfl (zw_le zw_nil (Nat.le_of_ble_eq_true rfl)) dX2_splits_7) (fun v7 => ?_)
  refine rk_ofs (fun _ _ _ _ _ k => lr_astore_n hx hb dX2_splits_10 rfl hl (Nat.le_of_ble_eq_true rfl) [0, 2] rfl ⟨trivial, ⟨rfl, trivial⟩⟩ k) (fun ls hl => ?_)
  refine rk_of (fun _ _ _ _ _ k => lv_iload_n hx hb dX2_splits_11 rfl (lv_at hl 2 rfl) (lr_aload_n hx hb dX2_splits_12 rfl (lv_at hl 0 rfl) k)) ?_
  refine rk_callI hX (cl_V (rest := [.int a2]) (av := []) C (hc_X6 H) (ct_X6_from H v7) (lw_V q1440 q1007 q3082 q137 q1009) ⟨rfl, hd_X6_from⟩ ⟨(Nat.le_of_ble_eq_true rfl), (Nat.le_of_ble_eq_true rfl)⟩ rfl hl.1 rfl (zw_le (zw_I zw_nil) (Nat.le_of_ble_eq_true rfl)) dX2_splits_13) (fun v13 => ?_)
  refine rk_join (β := Int32) (fun (b32 : Int32) ls => lv_has ls 5 [(0, va_rf a0), (2, .int a2), (3, va_rf v7)]) (fun (b32 : Int32) ls => F0 m 32 ls [.int b32]) (fun b32 ls hl => ?_) (fun hJ32 => ?_)
  · refine rk_of (fun _ _ _ _ _ k => lv_bipush (v := 6) hx hb dX2_splits_32 rfl (lr_aload_n hx hb dX2_splits_34 rfl (lv_at hl 2 rfl) k)) ?_
    refine rk_callI hX (cl_D (n := 0) (rest := [.int 6, .int b32]) (av := []) C (hc_X6 H) (ct_X7_length H v7) (lw_meth q1113) q140 ((zh_df H).choose_spec.1 _ (List.mem_of_getElem? (i := 4) rfl)) ((zh_df H).choose_spec.1 _ (List.mem_of_getElem? (i := 5) rfl)) ((zh_df H).choose_spec.2 _ (List.mem_of_getElem? (i := 2) rfl)) (zn_wD H C q1109) q1111 (by decide) (by decide +kernel) ⟨(Nat.le_of_ble_eq_true rfl), (Nat.le_of_ble_eq_true rfl)⟩ rfl hl.1 rfl (zw_le (zw_I (zw_I zw_nil)) (Nat.le_of_ble_eq_true rfl)) dX2_splits_35) (fun v35 => ?_)
    refine rk_callV hX (cl_SN (rest := []) C (ct_X1_meet H b32 6 v35) (lw_meth q1151) q101 (zn_wM H C q1149) q1150 hd_X1_meet ⟨(Nat.le_of_ble_eq_true rfl), (Nat.le_of_ble_eq_true rfl)⟩ rfl hl.1 rfl (zw_le zw_nil (Nat.le_of_ble_eq_true rfl)) dX2_splits_38) (fun _ => ?_)
    refine rk_of (fun _ _ _ _ _ k => lr_aload_n hx hb dX2_splits_41 rfl (lv_at hl 0 rfl) k) ?_
    refine rk_new C (hc_X6 H) in_X6 tyX6_ok q1094 q1315 q137 (fs := [.int 0, .int 0, .null, .int 0]) rfl (fun j hj => zdf_X6 j hj) dX2_splits_42 (fun v42 => ?_)
    refine rk_of (fun _ _ _ _ _ k => lv_dup hx hb dX2_splits_45 (va_rf_cat _) (lr_aload_n hx hb dX2_splits_46 rfl (lv_at hl 2 rfl) k)) ?_
    refine rk_callI hX (cl_V (rest := [va_rf (some v42), va_rf (some v42), va_rf a0]) (av := []) C (hc_X6 H) (ct_X6_box H v7) (lw_V q1512 q1513 q1514 q137 q1515) ⟨rfl, hd_X6_box⟩ ⟨(Nat.le_of_ble_eq_true rfl), (Nat.le_of_ble_eq_true rfl)⟩ rfl hl.1 rfl (zw_le (zw_R (zw_R (zw_R zw_nil))) (Nat.le_of_ble_eq_true rfl)) dX2_splits_47) (fun v47 => ?_)
    refine rk_of (fun _ _ _ _ _ k => lr_aload_n hx hb dX2_splits_50 rfl (lv_at hl 2 rfl) k) ?_
    refine rk_callI hX (cl_V (rest := [.int v47, va_rf (some v42), va_rf (some v42), va_rf a0]) (av := []) C (hc_X6 H) (ct_X6_party H v7) (lw_V q1534 q1535 q1536 q137 q1537) ⟨rfl, hd_X6_party⟩ ⟨(Nat.le_of_ble_eq_true rfl), (Nat.le_of_ble_eq_true rfl)⟩ rfl hl.1 rfl (zw_le (zw_I (zw_R (zw_R (zw_R zw_nil)))) (Nat.le_of_ble_eq_true rfl)) dX2_splits_51) (fun v51 => ?_)
    refine rk_new C (hc_X5 H) in_X5 tyX5_ok q1538 q808 q135 (fs := [.int 0, .int 0]) rfl (fun j hj => zdf_X5 j hj) dX2_splits_54 (fun v54 => ?_)
    refine rk_of (fun _ _ _ _ _ k => lv_dup hx hb dX2_splits_57 (va_rf_cat _) (lv_iload_n hx hb dX2_splits_58 rfl (lv_at hl 1 rfl) (lr_aload_n hx hb dX2_splits_59 rfl (lv_at hl 2 rfl) k))) ?_
    refine rk_callI hX (cl_V (rest := [.int a2, va_rf (some v54), va_rf (some v54), .int v51, .int v47, va_rf (some v42), va_rf (some v42), va_rf a0]) (av := []) C (hc_X6 H) (ct_X6_to H v7) (lw_V q1539 q1031 q3083 q137 q1033) ⟨rfl, hd_X6_to⟩ ⟨(Nat.le_of_ble_eq_true rfl), (Nat.le_of_ble_eq_true rfl)⟩ rfl hl.1 rfl (zw_le (zw_I (zw_R (zw_R (zw_I (zw_I (zw_R (zw_R (zw_R zw_nil)))))))) (Nat.le_of_ble_eq_true rfl)) dX2_splits_60) (fun v60 => ?_)
    refine rk_callV hX (cl_I (rest := [va_rf (some v54), .int v51, .int v47, va_rf (some v42), va_rf (some v42), va_rf a0]) C (ct_X5_init H (some v54) a2 v60) (lw_meth q820) q135 q1540 q819 rfl hd_X5_init ⟨(Nat.le_of_ble_eq_true rfl), (Nat.le_of_ble_eq_true rfl)⟩ rfl hl.1 rfl (zw_le (zw_R (zw_I (zw_I (zw_R (zw_R (zw_R zw_nil)))))) (Nat.le_of_ble_eq_true rfl)) dX2_splits_63) (fun _ => ?_)
    refine rk_callV hX (cl_I (rest := [va_rf (some v42), va_rf a0]) C (ct_X6_init H (some v42) v47 v51 (some v54)) (lw_meth q1318) q137 q1441 q1317 rfl hd_X6_init ⟨(Nat.le_of_ble_eq_true rfl), (Nat.le_of_ble_eq_true rfl)⟩ rfl hl.1 rfl (zw_le (zw_R (zw_R zw_nil)) (Nat.le_of_ble_eq_true rfl)) dX2_splits_66) (fun _ => ?_)
    refine rk_callI hX (cl_V (rest := []) (av := [va_rf (some v42)]) C (hc_X2 H) (ct_X2_makes H a0 (some v42)) (lw_V q1442 q1444 qs18 q102 q1445) ⟨rfl, hd_X2_makes⟩ ⟨(Nat.le_of_ble_eq_true rfl), (Nat.le_of_ble_eq_true rfl)⟩ rfl hl.1 rfl (zw_le zw_nil (Nat.le_of_ble_eq_true rfl)) dX2_splits_69) (fun v69 => ?_)
    refine rk_ofs (fun _ _ _ _ _ k => lr_istore hx hb dX2_splits_72 hl (Nat.le_of_ble_eq_true rfl) [1, 2] rfl ⟨trivial, ⟨(by first | exact va_rf_cat _ | rfl), trivial⟩⟩ k) (fun ls hl => ?_)
    refine rk_of (fun _ _ _ _ _ k => lr_aload_n hx hb dX2_splits_74 rfl (lv_at hl 2 rfl) k) ?_
    refine rk_new C (hc_X5 H) in_X5 tyX5_ok q1538 q808 q135 (fs := [.int 0, .int 0]) rfl (fun j hj => zdf_X5 j hj) dX2_splits_75 (fun v75 => ?_)
    refine rk_of (fun _ _ _ _ _ k => lv_dup hx hb dX2_splits_78 (va_rf_cat _) (lr_aload_n hx hb dX2_splits_79 rfl (lv_at hl 2 rfl) k)) ?_
    refine rk_callI hX (cl_V (rest := [va_rf (some v75), va_rf (some v75), va_rf v7]) (av := []) C (hc_X6 H) (ct_X6_from H v7) (lw_V q1440 q1007 q3082 q137 q1009) ⟨rfl, hd_X6_from⟩ ⟨(Nat.le_of_ble_eq_true rfl), (Nat.le_of_ble_eq_true rfl)⟩ rfl hl.1 rfl (zw_le (zw_R (zw_R (zw_R zw_nil))) (Nat.le_of_ble_eq_true rfl)) dX2_splits_80) (fun v80 => ?_)
    refine rk_of (fun _ _ _ _ _ k => lv_iload_n hx hb dX2_splits_83 rfl (lv_at hl 1 rfl) k) ?_
    refine rk_callV hX (cl_I (rest := [va_rf (some v75), va_rf v7]) C (ct_X5_init H (some v75) v80 a2) (lw_meth q820) q135 q1540 q819 rfl hd_X5_init ⟨(Nat.le_of_ble_eq_true rfl), (Nat.le_of_ble_eq_true rfl)⟩ rfl hl.1 rfl (zw_le (zw_R (zw_R zw_nil)) (Nat.le_of_ble_eq_true rfl)) dX2_splits_84) (fun _ => ?_)
    refine rk_callV hX (cl_V (rest := []) (av := [va_rf (some v75)]) C (hc_X6 H) (ct_X6_becomes H v7 (some v75)) (lw_V q1516 q1517 q1518 q137 q1519) ⟨rfl, hd_X6_becomes⟩ ⟨(Nat.le_of_ble_eq_true rfl), (Nat.le_of_ble_eq_true rfl)⟩ rfl hl.1 rfl (zw_le zw_nil (Nat.le_of_ble_eq_true rfl)) dX2_splits_87) (fun _ => ?_)
    refine rk_of (fun _ _ _ _ _ k => lv_iload hx hb dX2_splits_90 (lv_at hl 0 rfl) k) ?_
    exact rk_top (rf_iret C rfl dX2_splits_92)
  · refine rk_ite (fun _ _ _ _ _ k1 k2 => lv_icmp_le (tgt := 31) hx hb dX2_splits_16 (by decide) k1 k2) (fun c_16 => ?_) (fun c_16 => ?_)
    · refine rk_of (fun _ _ _ _ _ k => lv_iconst (v := 0) hx hb dX2_splits_31 rfl k) ?_
      exact hJ32 0 ls (lv_sub hl [1, 2, 0] rfl)
    · refine rk_of (fun _ _ _ _ _ k => lr_aload_n hx hb dX2_splits_19 rfl (lv_at hl 0 rfl) (lv_iload_n hx hb dX2_splits_20 rfl (lv_at hl 2 rfl) k)) ?_
      refine rk_callI hX (cl_D (n := 1) (rest := []) (av := [.int a2]) C (hc_X6 H) (ct_X7_has H v7 a2) (lw_meth q999) q140 ((zh_df H).choose_spec.1 _ (List.mem_of_getElem? (i := 2) rfl)) ((zh_df H).choose_spec.1 _ (List.mem_of_getElem? (i := 3) rfl)) ((zh_df H).choose_spec.2 _ (List.mem_of_getElem? (i := 1) rfl)) (zn_wD H C q995) q997 (by decide) (by decide +kernel) ⟨(Nat.le_of_ble_eq_true rfl), (Nat.le_of_ble_eq_true rfl)⟩ rfl hl.1 rfl (zw_le zw_nil (Nat.le_of_ble_eq_true rfl)) dX2_splits_21) (fun v21 => ?_)
      refine rk_ite (fun _ _ _ _ _ k1 k2 => lv_if_eq (tgt := 31) hx hb dX2_splits_24 (by decide) k1 k2) (fun c_24 => ?_) (fun c_24 => ?_)
      · refine rk_of (fun _ _ _ _ _ k => lv_iconst (v := 0) hx hb dX2_splits_31 rfl k) ?_
        exact hJ32 0 ls (lv_sub hl [1, 2, 0] rfl)
      · refine rk_of (fun _ _ _ _ _ k => lv_iconst (v := 1) hx hb dX2_splits_27 rfl (lv_goto (tgt := 32) hx hb dX2_splits_28 (by decide) k)) ?_
        exact hJ32 1 ls (lv_sub hl [1, 2, 0] rfl)
theorem hd_X1_lambda_split_4 : yX1_lambda_split_4.cls ≠ "java/lang/invoke/MethodHandle" ∧ yX1_lambda_split_4.cls ≠ "java/lang/invoke/VarHandle" ∧ (parseMethodDescriptor yX1_lambda_split_4.desc).map (fun d => d.parameters.length) = some 3 := by decide +kernel
noncomputable def fn_X1_lambda_split_4 (K : zm_K) (a0 : Int32) (a1 : Int32) (a2 : zm_R) : zm_M Int32 :=
  zm_bnd (zm_bnd (zm_is a2 19) fun _ => fn_X2_splits K a2 a0 a1) fun v3 =>
  zm_ret v3
theorem ct_X1_lambda_split_4 {l : Launch} {Ω : zm_W} {K : zm_K} (H : zm_H Ω K) (a0 : Int32) (a1 : Int32) (a2 : zm_R) : zm_Ct l Ω yX1_lambda_split_4 (ws_ yX1_lambda_split_4 cX1_lambda_split_4 3 (Option.some Jvm.ClassFile.FieldType.int)) 13 320 [.int a0, .int a1, va_rf a2] zm_tvI (fn_X1_lambda_split_4 K a0 a1 a2) := by
  refine zm_ct H.1 (by decide +kernel) (zl_le (zl_I (zl_I (zl_R zl_nil))) (Nat.le_of_ble_eq_true rfl)) ?_
  intro p e R s m args below meth c n0 k0 C hX ls hl
  have hx := C.1
  have hb := C.2.1
  simp only [zg_I, zg_R, zg_nil] at hl
  have hl : lv_has ls 3 [(0, .int a0), (1, .int a1), (2, va_rf a2)] := hl
  refine rk_rf ?_
  unfold fn_X1_lambda_split_4
  refine rk_of (fun _ _ _ _ _ k => lr_aload_n hx hb dX1_lambda_split_4_0 rfl (lv_at hl 2 rfl) (lv_iload_n hx hb dX1_lambda_split_4_1 rfl (lv_at hl 0 rfl) (lv_iload_n hx hb dX1_lambda_split_4_2 rfl (lv_at hl 1 rfl) k))) ?_
  refine rk_callI hX (cl_V (rest := []) (av := [.int a0, .int a1]) C (hc_X2 H) (ct_X2_splits H a2 a0 a1) (lw_V q1530 q1531 q1532 q102 q1533) ⟨rfl, hd_X2_splits⟩ ⟨(Nat.le_of_ble_eq_true rfl), (Nat.le_of_ble_eq_true rfl)⟩ rfl hl.1 rfl (zw_le zw_nil (Nat.le_of_ble_eq_true rfl)) dX1_lambda_split_4_3) (fun v3 => ?_)
  exact rk_top (rf_iret C rfl dX1_lambda_split_4_6)
theorem hd_X7_between : yX7_between.cls ≠ "java/lang/invoke/MethodHandle" ∧ yX7_between.cls ≠ "java/lang/invoke/VarHandle" ∧ (parseMethodDescriptor yX7_between.desc).map (fun d => d.parameters.length) = some 2 := by decide +kernel
noncomputable def fn_X7_between (K : zm_K) (a0 : zm_R) (a1 : zm_R) : zm_M Int32 :=
  zm_bnd (zm_bnd (zm_cls a0) fun ci => if ci = 23 then fn_X6_from K a0 else if ci = 22 then fn_X5_from K a0 else if ci = 24 then fn_X8_from K a0 else zm_fl) fun v1 =>
  zm_bnd (zm_bnd (zm_cls a1) fun ci => if ci = 23 then fn_X6_from K a1 else if ci = 22 then fn_X5_from K a1 else if ci = 24 then fn_X8_from K a1 else zm_fl) fun v7 =>
  zm_bnd (zm_ret (if (v1 < v7 : Prop) then (v7 : Int32) else v1)) fun v12 =>
  zm_bnd (zm_bnd (zm_cls a0) fun ci => if ci = 23 then fn_X6_to K a0 else if ci = 22 then fn_X5_to K a0 else if ci = 24 then fn_X8_to K a0 else zm_fl) fun v16 =>
  zm_bnd (zm_bnd (zm_cls a1) fun ci => if ci = 23 then fn_X6_to K a1 else if ci = 22 then fn_X5_to K a1 else if ci = 24 then fn_X8_to K a1 else zm_fl) fun v22 =>
  zm_bnd (zm_ret (if (v22 < v16 : Prop) then (v22 : Int32) else v16)) fun v27 =>
  zm_ret (v12 - v27)
theorem ct_X7_between {l : Launch} {Ω : zm_W} {K : zm_K} (H : zm_H Ω K) (a0 : zm_R) (a1 : zm_R) : zm_Ct l Ω yX7_between (ws_ yX7_between cX7_between 2 (Option.some Jvm.ClassFile.FieldType.int)) 4 128 [va_rf a0, va_rf a1] zm_tvI (fn_X7_between K a0 a1) := by
  refine zm_ct H.1 (by decide +kernel) (zl_le (zl_R (zl_R zl_nil)) (Nat.le_of_ble_eq_true rfl)) ?_
  intro p e R s m args below meth c n0 k0 C hX ls hl
  have hx := C.1
  have hb := C.2.1
  simp only [zg_R, zg_nil] at hl
  have hl : lv_has ls 2 [(0, va_rf a0), (1, va_rf a1)] := hl
  refine rk_rf ?_
  unfold fn_X7_between
  refine rk_of (fun _ _ _ _ _ k => lr_aload_n hx hb dX7_between_0 rfl (lv_at hl 0 rfl) k) ?_
  refine rk_callI hX (cl_dsp (fun ci => cl_case (cl_F (n := 0) (rest := []) (av := []) C (hc_X6 H) (ct_X6_from H a0) (lw_F q1001 q1005 q1007 q137 q1009) (zh_Fw H C (by decide) q1003 q1002 q1008 q1006 q1004) (by decide +kernel) ⟨(Nat.le_of_ble_eq_true rfl), (Nat.le_of_ble_eq_true rfl)⟩ rfl hl.1 rfl (zw_le zw_nil (Nat.le_of_ble_eq_true rfl)) dX7_between_1) (cl_case (cl_F (n := 0) (rest := []) (av := []) C (hc_X5 H) (ct_X5_from H a0) (lw_F q1001 q1015 q1011 q135 q1013) (zh_Fw H C (by decide) q1003 q1002 q1017 q1016 q1014) (by decide +kernel) ⟨(Nat.le_of_ble_eq_true rfl), (Nat.le_of_ble_eq_true rfl)⟩ rfl hl.1 rfl (zw_le zw_nil (Nat.le_of_ble_eq_true rfl)) dX7_between_1) (cl_case (cl_F (n := 0) (rest := []) (av := []) C (hc_X8 H) (ct_X8_from H a0) (lw_F q1001 q1019 q1021 q141 q1023) (zh_Fw H C (by decide) q1003 q1002 q1022 q1020 q1018) (by decide +kernel) ⟨(Nat.le_of_ble_eq_true rfl), (Nat.le_of_ble_eq_true rfl)⟩ rfl hl.1 rfl (zw_le zw_nil (Nat.le_of_ble_eq_true rfl)) dX7_between_1) (cl_fl))))) (fun v1 => ?_)
  refine rk_of (fun _ _ _ _ _ k => lr_aload_n hx hb dX7_between_6 rfl (lv_at hl 1 rfl) k) ?_
  refine rk_callI hX (cl_dsp (fun ci => cl_case (cl_F (n := 0) (rest := [.int v1]) (av := []) C (hc_X6 H) (ct_X6_from H a1) (lw_F q1001 q1005 q1007 q137 q1009) (zh_Fw H C (by decide) q1003 q1002 q1008 q1006 q1004) (by decide +kernel) ⟨(Nat.le_of_ble_eq_true rfl), (Nat.le_of_ble_eq_true rfl)⟩ rfl hl.1 rfl (zw_le (zw_I zw_nil) (Nat.le_of_ble_eq_true rfl)) dX7_between_7) (cl_case (cl_F (n := 0) (rest := [.int v1]) (av := []) C (hc_X5 H) (ct_X5_from H a1) (lw_F q1001 q1015 q1011 q135 q1013) (zh_Fw H C (by decide) q1003 q1002 q1017 q1016 q1014) (by decide +kernel) ⟨(Nat.le_of_ble_eq_true rfl), (Nat.le_of_ble_eq_true rfl)⟩ rfl hl.1 rfl (zw_le (zw_I zw_nil) (Nat.le_of_ble_eq_true rfl)) dX7_between_7) (cl_case (cl_F (n := 0) (rest := [.int v1]) (av := []) C (hc_X8 H) (ct_X8_from H a1) (lw_F q1001 q1019 q1021 q141 q1023) (zh_Fw H C (by decide) q1003 q1002 q1022 q1020 q1018) (by decide +kernel) ⟨(Nat.le_of_ble_eq_true rfl), (Nat.le_of_ble_eq_true rfl)⟩ rfl hl.1 rfl (zw_le (zw_I zw_nil) (Nat.le_of_ble_eq_true rfl)) dX7_between_7) (cl_fl))))) (fun v7 => ?_)
  refine rk_mmax C hl.1 q1557 q436 q122 q437 (Nat.le_of_ble_eq_true rfl) (zw_ad zw_nil (Nat.le_of_ble_eq_true rfl)) dX7_between_12 (fun v12 => ?_)
  refine rk_of (fun _ _ _ _ _ k => lr_aload_n hx hb dX7_between_15 rfl (lv_at hl 0 rfl) k) ?_
  refine rk_callI hX (cl_dsp (fun ci => cl_case (cl_F (n := 0) (rest := [.int v12]) (av := []) C (hc_X6 H) (ct_X6_to H a0) (lw_F q1026 q1029 q1031 q137 q1033) (zh_Fw H C (by decide) q1028 q1027 q1032 q1030 q1004) (by decide +kernel) ⟨(Nat.le_of_ble_eq_true rfl), (Nat.le_of_ble_eq_true rfl)⟩ rfl hl.1 rfl (zw_le (zw_I zw_nil) (Nat.le_of_ble_eq_true rfl)) dX7_between_16) (cl_case (cl_F (n := 0) (rest := [.int v12]) (av := []) C (hc_X5 H) (ct_X5_to H a0) (lw_F q1026 q1035 q830 q135 q832) (zh_Fw H C (by decide) q1028 q1027 q1037 q1036 q1014) (by decide +kernel) ⟨(Nat.le_of_ble_eq_true rfl), (Nat.le_of_ble_eq_true rfl)⟩ rfl hl.1 rfl (zw_le (zw_I zw_nil) (Nat.le_of_ble_eq_true rfl)) dX7_between_16) (cl_case (cl_F (n := 0) (rest := [.int v12]) (av := []) C (hc_X8 H) (ct_X8_to H a0) (lw_F q1026 q1038 q1040 q141 q1042) (zh_Fw H C (by decide) q1028 q1027 q1041 q1039 q1018) (by decide +kernel) ⟨(Nat.le_of_ble_eq_true rfl), (Nat.le_of_ble_eq_true rfl)⟩ rfl hl.1 rfl (zw_le (zw_I zw_nil) (Nat.le_of_ble_eq_true rfl)) dX7_between_16) (cl_fl))))) (fun v16 => ?_)
  refine rk_of (fun _ _ _ _ _ k => lr_aload_n hx hb dX7_between_21 rfl (lv_at hl 1 rfl) k) ?_
  refine rk_callI hX (cl_dsp (fun ci => cl_case (cl_F (n := 0) (rest := [.int v16, .int v12]) (av := []) C (hc_X6 H) (ct_X6_to H a1) (lw_F q1026 q1029 q1031 q137 q1033) (zh_Fw H C (by decide) q1028 q1027 q1032 q1030 q1004) (by decide +kernel) ⟨(Nat.le_of_ble_eq_true rfl), (Nat.le_of_ble_eq_true rfl)⟩ rfl hl.1 rfl (zw_le (zw_I (zw_I zw_nil)) (Nat.le_of_ble_eq_true rfl)) dX7_between_22) (cl_case (cl_F (n := 0) (rest := [.int v16, .int v12]) (av := []) C (hc_X5 H) (ct_X5_to H a1) (lw_F q1026 q1035 q830 q135 q832) (zh_Fw H C (by decide) q1028 q1027 q1037 q1036 q1014) (by decide +kernel) ⟨(Nat.le_of_ble_eq_true rfl), (Nat.le_of_ble_eq_true rfl)⟩ rfl hl.1 rfl (zw_le (zw_I (zw_I zw_nil)) (Nat.le_of_ble_eq_true rfl)) dX7_between_22) (cl_case (cl_F (n := 0) (rest := [.int v16, .int v12]) (av := []) C (hc_X8 H) (ct_X8_to H a1) (lw_F q1026 q1038 q1040 q141 q1042) (zh_Fw H C (by decide) q1028 q1027 q1041 q1039 q1018) (by decide +kernel) ⟨(Nat.le_of_ble_eq_true rfl), (Nat.le_of_ble_eq_true rfl)⟩ rfl hl.1 rfl (zw_le (zw_I (zw_I zw_nil)) (Nat.le_of_ble_eq_true rfl)) dX7_between_22) (cl_fl))))) (fun v22 => ?_)
  refine rk_mmin C hl.1 q1558 q454 q122 q455 (Nat.le_of_ble_eq_true rfl) (zw_ad (zw_I zw_nil) (Nat.le_of_ble_eq_true rfl)) dX7_between_27 (fun v27 => ?_)
  refine rk_of (fun _ _ _ _ _ k => lv_isub hx hb dX7_between_30 k) ?_
  exact rk_top (rf_iret C rfl dX7_between_31)
theorem hd_X5_with : yX5_with.cls ≠ "java/lang/invoke/MethodHandle" ∧ yX5_with.cls ≠ "java/lang/invoke/VarHandle" ∧ (parseMethodDescriptor yX5_with.desc).map (fun d => d.parameters.length) = some 1 := by decide +kernel
noncomputable def fn_X5_with (K : zm_K) (a0 : zm_R) (a1 : zm_R) : zm_M zm_R :=
  zm_bnd (zm_new 22 [.int 0, .int 0]) fun v0 =>
  zm_bnd (zm_getI a0 22 0) fun v5 =>
  zm_bnd (zm_bnd (zm_cls a1) fun ci => if ci = 23 then fn_X6_from K a1 else if ci = 22 then fn_X5_from K a1 else if ci = 24 then fn_X8_from K a1 else zm_fl) fun v9 =>
  zm_bnd (zm_ret (if (v9 < v5 : Prop) then (v9 : Int32) else v5)) fun v14 =>
  zm_bnd (zm_getI a0 22 1) fun v18 =>
  zm_bnd (zm_bnd (zm_cls a1) fun ci => if ci = 23 then fn_X6_to K a1 else if ci = 22 then fn_X5_to K a1 else if ci = 24 then fn_X8_to K a1 else zm_fl) fun v22 =>
  zm_bnd (zm_ret (if (v18 < v22 : Prop) then (v22 : Int32) else v18)) fun v27 =>
  zm_bnd (fn_X5_init K (some v0) v14 v27) fun _ =>
  zm_ret (some v0)
theorem ct_X5_with {l : Launch} {Ω : zm_W} {K : zm_K} (H : zm_H Ω K) (a0 : zm_R) (a1 : zm_R) : zm_Ct l Ω yX5_with (ws_ yX5_with cX5_with 2 (Option.some (Jvm.ClassFile.FieldType.object "BoxSpans$Span"))) 4 128 [va_rf a0, va_rf a1] zm_tvR (fn_X5_with K a0 a1) := by
  refine zm_ct H.1 (by decide +kernel) (zl_le (zl_R (zl_R zl_nil)) (Nat.le_of_ble_eq_true rfl)) ?_
  intro p e R s m args below meth c n0 k0 C hX ls hl
  have hx := C.1
  have hb := C.2.1
  simp only [zg_R, zg_nil] at hl
  have hl : lv_has ls 2 [(0, va_rf a0), (1, va_rf a1)] := hl
  refine rk_rf ?_
  unfold fn_X5_with
  refine rk_new C (hc_X5 H) in_X5 tyX5_ok q1503 q808 q135 (fs := [.int 0, .int 0]) rfl (fun j hj => zdf_X5 j hj) dX5_with_0 (fun v0 => ?_)
  refine rk_of (fun _ _ _ _ _ k => lv_dup hx hb dX5_with_3 (va_rf_cat _) (lr_aload_n hx hb dX5_with_4 rfl (lv_at hl 0 rfl) k)) ?_
  refine rk_get zm_rdI_eq C (hc_X5 H) (k := 0) (Nat.le_of_ble_eq_true rfl) in_X5 q822 (fun _ h => h) dX5_with_5 (fun v5 => ?_)
  refine rk_of (fun _ _ _ _ _ k => lr_aload_n hx hb dX5_with_8 rfl (lv_at hl 1 rfl) k) ?_
  refine rk_callI hX (cl_dsp (fun ci => cl_case (cl_F (n := 0) (rest := [.int v5, va_rf (some v0), va_rf (some v0)]) (av := []) C (hc_X6 H) (ct_X6_from H a1) (lw_F q1564 q1005 q1007 q137 q1009) (zh_Fw H C (by decide) q1003 q1002 q1008 q1006 q1004) (by decide +kernel) ⟨(Nat.le_of_ble_eq_true rfl), (Nat.le_of_ble_eq_true rfl)⟩ rfl hl.1 rfl (zw_le (zw_I (zw_R (zw_R zw_nil))) (Nat.le_of_ble_eq_true rfl)) dX5_with_9) (cl_case (cl_F (n := 0) (rest := [.int v5, va_rf (some v0), va_rf (some v0)]) (av := []) C (hc_X5 H) (ct_X5_from H a1) (lw_F q1564 q1015 q1011 q135 q1013) (zh_Fw H C (by decide) q1003 q1002 q1017 q1016 q1014) (by decide +kernel) ⟨(Nat.le_of_ble_eq_true rfl), (Nat.le_of_ble_eq_true rfl)⟩ rfl hl.1 rfl (zw_le (zw_I (zw_R (zw_R zw_nil))) (Nat.le_of_ble_eq_true rfl)) dX5_with_9) (cl_case (cl_F (n := 0) (rest := [.int v5, va_rf (some v0), va_rf (some v0)]) (av := []) C (hc_X8 H) (ct_X8_from H a1) (lw_F q1564 q1019 q1021 q141 q1023) (zh_Fw H C (by decide) q1003 q1002 q1022 q1020 q1018) (by decide +kernel) ⟨(Nat.le_of_ble_eq_true rfl), (Nat.le_of_ble_eq_true rfl)⟩ rfl hl.1 rfl (zw_le (zw_I (zw_R (zw_R zw_nil))) (Nat.le_of_ble_eq_true rfl)) dX5_with_9) (cl_fl))))) (fun v9 => ?_)
  refine rk_mmin C hl.1 q1511 q454 q122 q455 (Nat.le_of_ble_eq_true rfl) (zw_ad (zw_R (zw_R zw_nil)) (Nat.le_of_ble_eq_true rfl)) dX5_with_14 (fun v14 => ?_)
  refine rk_of (fun _ _ _ _ _ k => lr_aload_n hx hb dX5_with_17 rfl (lv_at hl 0 rfl) k) ?_
  refine rk_get zm_rdI_eq C (hc_X5 H) (k := 1) (Nat.le_of_ble_eq_true rfl) in_X5 q823 (fun _ h => h) dX5_with_18 (fun v18 => ?_)
  refine rk_of (fun _ _ _ _ _ k => lr_aload_n hx hb dX5_with_21 rfl (lv_at hl 1 rfl) k) ?_
  refine rk_callI hX (cl_dsp (fun ci => cl_case (cl_F (n := 0) (rest := [.int v18, .int v14, va_rf (some v0), va_rf (some v0)]) (av := []) C (hc_X6 H) (ct_X6_to H a1) (lw_F q1566 q1029 q1031 q137 q1033) (zh_Fw H C (by decide) q1028 q1027 q1032 q1030 q1004) (by decide +kernel) ⟨(Nat.le_of_ble_eq_true rfl), (Nat.le_of_ble_eq_true rfl)⟩ rfl hl.1 rfl (zw_le (zw_I (zw_I (zw_R (zw_R zw_nil)))) (Nat.le_of_ble_eq_true rfl)) dX5_with_22) (cl_case (cl_F (n := 0) (rest := [.int v18, .int v14, va_rf (some v0), va_rf (some v0)]) (av := []) C (hc_X5 H) (ct_X5_to H a1) (lw_F q1566 q1035 q830 q135 q832) (zh_Fw H C (by decide) q1028 q1027 q1037 q1036 q1014) (by decide +kernel) ⟨(Nat.le_of_ble_eq_true rfl), (Nat.le_of_ble_eq_true rfl)⟩ rfl hl.1 rfl (zw_le (zw_I (zw_I (zw_R (zw_R zw_nil)))) (Nat.le_of_ble_eq_true rfl)) dX5_with_22) (cl_case (cl_F (n := 0) (rest := [.int v18, .int v14, va_rf (some v0), va_rf (some v0)]) (av := []) C (hc_X8 H) (ct_X8_to H a1) (lw_F q1566 q1038 q1040 q141 q1042) (zh_Fw H C (by decide) q1028 q1027 q1041 q1039 q1018) (by decide +kernel) ⟨(Nat.le_of_ble_eq_true rfl), (Nat.le_of_ble_eq_true rfl)⟩ rfl hl.1 rfl (zw_le (zw_I (zw_I (zw_R (zw_R zw_nil)))) (Nat.le_of_ble_eq_true rfl)) dX5_with_22) (cl_fl))))) (fun v22 => ?_)
  refine rk_mmax C hl.1 q1510 q436 q122 q437 (Nat.le_of_ble_eq_true rfl) (zw_ad (zw_I (zw_R (zw_R zw_nil))) (Nat.le_of_ble_eq_true rfl)) dX5_with_27 (fun v27 => ?_)
  refine rk_callV hX (cl_I (rest := [va_rf (some v0)]) C (ct_X5_init H (some v0) v14 v27) (lw_meth q820) q135 q1504 q819 rfl hd_X5_init ⟨(Nat.le_of_ble_eq_true rfl), (Nat.le_of_ble_eq_true rfl)⟩ rfl hl.1 rfl (zw_le (zw_R zw_nil) (Nat.le_of_ble_eq_true rfl)) dX5_with_30) (fun _ => ?_)
  exact rk_top (rf_aret C (Or.inl ⟨_, rfl⟩) dX5_with_33)
theorem hd_X2_joins : yX2_joins.cls ≠ "java/lang/invoke/MethodHandle" ∧ yX2_joins.cls ≠ "java/lang/invoke/VarHandle" ∧ (parseMethodDescriptor yX2_joins.desc).map (fun d => d.parameters.length) = some 2 := by decide +kernel
noncomputable def fn_X2_joins (K : zm_K) (a0 : zm_R) (a1 : Int32) (a2 : Int32) : zm_M Int32 :=
  zm_bnd (zm_bnd (zm_is a0 19) fun _ => fn_X2_checkLetting K a0 a1) fun _ =>
  zm_bnd (zm_bnd (zm_is a0 19) fun _ => fn_X2_checkLetting K a0 a2) fun _ =>
  zm_bnd (zm_bnd (zm_is a0 19) fun _ => fn_X2_letting K a0 a1) fun v12 =>
  zm_bnd (zm_bnd (zm_is a0 19) fun _ => fn_X2_letting K a0 a2) fun v18 =>
  zm_bnd (zm_bnd (zm_is v12 23) fun _ => fn_X6_box K v12) fun v24 =>
  zm_bnd (zm_bnd (zm_is v18 23) fun _ => fn_X6_box K v18) fun v29 =>
  zm_bnd (α := Int32) (
      if v24 = v29 then
        zm_bnd (zm_bnd (zm_is v12 23) fun _ => fn_X6_party K v12) fun v36 =>
        zm_bnd (zm_bnd (zm_is v18 23) fun _ => fn_X6_party K v18) fun v41 =>
        if v36 = v41 then
          zm_ret 1
        else
          zm_ret 0
      else
        zm_ret 0
    ) fun b52 =>
  zm_bnd (zm_bnd (zm_is v18 23) fun _ => fn_X6_box K v18) fun v56 =>
  zm_bnd (fn_X1_meet K b52 7 v56) fun _ =>
  zm_bnd (fn_X7_between K v12 v18) fun v65 =>
  zm_bnd (α := Int32) (
      if v65 = 0 then
        zm_ret 1
      else
        zm_ret 0
    ) fun b76 =>
  zm_bnd (fn_X7_between K v12 v18) fun v81 =>
  zm_bnd (fn_X1_meet K b76 8 v81) fun _ =>
  zm_bnd (zm_bnd (zm_is v18 23) fun _ => fn_X6_ends K v18) fun _ =>
  zm_bnd (zm_bnd (zm_is v12 23) fun _ => fn_X6_span K v12) fun v94 =>
  zm_bnd (zm_bnd (zm_is v94 22) fun _ => fn_X5_with K v94 v18) fun v99 =>
  zm_bnd (zm_bnd (zm_is v12 23) fun _ => fn_X6_becomes K v12 v99) fun _ =>
  zm_bnd (zm_getI a0 19 5) fun v107 =>
  zm_bnd (zm_putF K a0 19 5 (.int (v107 + 1))) fun _ =>
  zm_bnd (zm_bnd (zm_is v12 23) fun _ => fn_X7_length K v12) fun v116 =>
  zm_ret v116
theorem ct_X2_joins {l : Launch} {Ω : zm_W} {K : zm_K} (H : zm_H Ω K) (a0 : zm_R) (a1 : Int32) (a2 : Int32) : zm_Ct l Ω yX2_joins (ws_ yX2_joins cX2_joins 5 (Option.some Jvm.ClassFile.FieldType.int)) 12 296 [va_rf a0, .int a1, .int a2] zm_tvI (fn_X2_joins K a0 a1 a2) := by
  refine zm_ct H.1 (by decide +kernel) (zl_le (zl_R (zl_I (zl_I zl_nil))) (Nat.le_of_ble_eq_true rfl)) ?_
  intro p e R s m args below meth c n0 k0 C hX ls hl
  have hx := C.1
  have hb := C.2.1
  simp only [zg_I, zg_R, zg_nil] at hl
  have hl : lv_has ls 5 [(0, va_rf a0), (1, .int a1), (2, .int a2)] := hl
  refine rk_rf ?_
  unfold fn_X2_joins
  refine rk_of (fun _ _ _ _ _ k => lr_aload_n hx hb dX2_joins_0 rfl (lv_at hl 0 rfl) (lv_iload_n hx hb dX2_joins_1 rfl (lv_at hl 1 rfl) k)) ?_
  refine rk_callV hX (cl_V (rest := []) (av := [.int a1]) C (hc_X2 H) (ct_X2_checkLetting H a0 a1) (lw_V q1470 q1472 qs20 q102 q1473) ⟨rfl, hd_X2_checkLetting⟩ ⟨(Nat.le_of_ble_eq_true rfl), (Nat.le_of_ble_eq_true rfl)⟩ rfl hl.1 rfl (zw_le zw_nil (Nat.le_of_ble_eq_true rfl)) dX2_joins_2) (fun _ => ?_)
  refine rk_of (fun _ _ _ _ _ k => lr_aload_n hx hb dX2_joins_5 rfl (lv_at hl 0 rfl) (lv_iload_n hx hb dX2_joins_6 rfl (lv_at hl 2 rfl) k)) ?_
  refine rk_callV hX (cl_V (rest := []) (av := [.int a2]) C (hc_X2 H) (ct_X2_checkLetting H a0 a2) (lw_V q1470 q1472 qs20 q102 q1473) ⟨rfl, hd_X2_checkLetting⟩ ⟨(Nat.le_of_ble_eq_true rfl), (Nat.le_of_ble_eq_true rfl)⟩ rfl hl.1 rfl (zw_le zw_nil (Nat.le_of_ble_eq_true rfl)) dX2_joins_7) (fun _ => ?_)
  refine rk_of (fun _ _ _ _ _ k => lr_aload_n hx hb dX2_joins_10 rfl (lv_at hl 0 rfl) (lv_iload_n hx hb dX2_joins_11 rfl (lv_at hl 1 rfl) k)) ?_
  refine rk_callR hX (cl_V (rest := []) (av := [.int a1]) C (hc_X2 H) (ct_X2_letting H a0 a1) (lw_V q1090 q1091 q1092 q102 q1093) ⟨rfl, hd_X2_letting⟩ ⟨(Nat.le_of_ble_eq_true rfl), (Nat.le_of_ble_eq_true rfl)⟩ rfl hl.1 rfl (zw_le zw_nil (Nat.le_of_ble_eq_true rfl)) dX2_joins_12) (fun v12 => ?_)
  refine rk_ofs (fun _ _ _ _ _ k => lr_astore_n hx hb dX2_joins_15 rfl hl (Nat.le_of_ble_eq_true rfl) [0, 2] rfl ⟨trivial, ⟨rfl, trivial⟩⟩ k) (fun ls hl => ?_)
  refine rk_of (fun _ _ _ _ _ k => lr_aload_n hx hb dX2_joins_16 rfl (lv_at hl 1 rfl) (lv_iload_n hx hb dX2_joins_17 rfl (lv_at hl 2 rfl) k)) ?_
  refine rk_callR hX (cl_V (rest := []) (av := [.int a2]) C (hc_X2 H) (ct_X2_letting H a0 a2) (lw_V q1090 q1091 q1092 q102 q1093) ⟨rfl, hd_X2_letting⟩ ⟨(Nat.le_of_ble_eq_true rfl), (Nat.le_of_ble_eq_true rfl)⟩ rfl hl.1 rfl (zw_le zw_nil (Nat.le_of_ble_eq_true rfl)) dX2_joins_18) (fun v18 => ?_)
  refine rk_ofs (fun _ _ _ _ _ k => lr_astore hx hb dX2_joins_21 hl (Nat.le_of_ble_eq_true rfl) [0, 1] rfl ⟨(by first | exact va_rf_cat _ | rfl), ⟨trivial, trivial⟩⟩ k) (fun ls hl => ?_)
  refine rk_of (fun _ _ _ _ _ k => lr_aload_n hx hb dX2_joins_23 rfl (lv_at hl 1 rfl) k) ?_
  refine rk_callI hX (cl_V (rest := []) (av := []) C (hc_X6 H) (ct_X6_box H v12) (lw_V q1512 q1513 q1514 q137 q1515) ⟨rfl, hd_X6_box⟩ ⟨(Nat.le_of_ble_eq_true rfl), (Nat.le_of_ble_eq_true rfl)⟩ rfl hl.1 rfl (zw_le zw_nil (Nat.le_of_ble_eq_true rfl)) dX2_joins_24) (fun v24 => ?_)
  refine rk_of (fun _ _ _ _ _ k => lr_aload hx hb dX2_joins_27 (lv_at hl 0 rfl) k) ?_
  refine rk_callI hX (cl_V (rest := [.int v24]) (av := []) C (hc_X6 H) (ct_X6_box H v18) (lw_V q1512 q1513 q1514 q137 q1515) ⟨rfl, hd_X6_box⟩ ⟨(Nat.le_of_ble_eq_true rfl), (Nat.le_of_ble_eq_true rfl)⟩ rfl hl.1 rfl (zw_le (zw_I zw_nil) (Nat.le_of_ble_eq_true rfl)) dX2_joins_29) (fun v29 => ?_)
  refine rk_join (β := Int32) (fun (b52 : Int32) ls => lv_has ls 5 [(0, va_rf a0), (3, va_rf v12), (4, va_rf v18)]) (fun (b52 : Int32) ls => F0 m 52 ls [.int b52]) (fun b52 ls hl => ?_) (fun hJ52 => ?_)
  · refine rk_of (fun _ _ _ _ _ k => lv_bipush (v := 7) hx hb dX2_joins_52 rfl (lr_aload hx hb dX2_joins_54 (lv_at hl 2 rfl) k)) ?_
    refine rk_callI hX (cl_V (rest := [.int 7, .int b52]) (av := []) C (hc_X6 H) (ct_X6_box H v18) (lw_V q1512 q1513 q1514 q137 q1515) ⟨rfl, hd_X6_box⟩ ⟨(Nat.le_of_ble_eq_true rfl), (Nat.le_of_ble_eq_true rfl)⟩ rfl hl.1 rfl (zw_le (zw_I (zw_I zw_nil)) (Nat.le_of_ble_eq_true rfl)) dX2_joins_56) (fun v56 => ?_)
    refine rk_callV hX (cl_SN (rest := []) C (ct_X1_meet H b52 7 v56) (lw_meth q1151) q101 (zn_wM H C q1149) q1150 hd_X1_meet ⟨(Nat.le_of_ble_eq_true rfl), (Nat.le_of_ble_eq_true rfl)⟩ rfl hl.1 rfl (zw_le zw_nil (Nat.le_of_ble_eq_true rfl)) dX2_joins_59) (fun _ => ?_)
    refine rk_of (fun _ _ _ _ _ k => lr_aload_n hx hb dX2_joins_62 rfl (lv_at hl 1 rfl) (lr_aload hx hb dX2_joins_63 (lv_at hl 2 rfl) k)) ?_
    refine rk_callI hX (cl_S (rest := []) C (ct_X7_between H v12 v18) (lw_S q1554 q1555 q140 q1556) hd_X7_between ⟨(Nat.le_of_ble_eq_true rfl), (Nat.le_of_ble_eq_true rfl)⟩ rfl hl.1 rfl (zw_le zw_nil (Nat.le_of_ble_eq_true rfl)) dX2_joins_65) (fun v65 => ?_)
    refine rk_join (β := Int32) (fun (b76 : Int32) ls => lv_has ls 5 [(0, va_rf a0), (3, va_rf v12), (4, va_rf v18)]) (fun (b76 : Int32) ls => F0 m 76 ls [.int b76]) (fun b76 ls hl => ?_) (fun hJ76 => ?_)
    · refine rk_of (fun _ _ _ _ _ k => lv_bipush (v := 8) hx hb dX2_joins_76 rfl (lr_aload_n hx hb dX2_joins_78 rfl (lv_at hl 1 rfl) (lr_aload hx hb dX2_joins_79 (lv_at hl 2 rfl) k))) ?_
      refine rk_callI hX (cl_S (rest := [.int 8, .int b76]) C (ct_X7_between H v12 v18) (lw_S q1554 q1555 q140 q1556) hd_X7_between ⟨(Nat.le_of_ble_eq_true rfl), (Nat.le_of_ble_eq_true rfl)⟩ rfl hl.1 rfl (zw_le (zw_I (zw_I zw_nil)) (Nat.le_of_ble_eq_true rfl)) dX2_joins_81) (fun v81 => ?_)
      refine rk_callV hX (cl_SN (rest := []) C (ct_X1_meet H b76 8 v81) (lw_meth q1151) q101 (zn_wM H C q1149) q1150 hd_X1_meet ⟨(Nat.le_of_ble_eq_true rfl), (Nat.le_of_ble_eq_true rfl)⟩ rfl hl.1 rfl (zw_le zw_nil (Nat.le_of_ble_eq_true rfl)) dX2_joins_84) (fun _ => ?_)
      refine rk_of (fun _ _ _ _ _ k => lr_aload hx hb dX2_joins_87 (lv_at hl 2 rfl) k) ?_
      refine rk_callV hX (cl_V (rest := []) (av := []) C (hc_X6 H) (ct_X6_ends H v18) (lw_V q1478 q1479 q1480 q137 q1481) ⟨rfl, hd_X6_ends⟩ ⟨(Nat.le_of_ble_eq_true rfl), (Nat.le_of_ble_eq_true rfl)⟩ rfl hl.1 rfl (zw_le zw_nil (Nat.le_of_ble_eq_true rfl)) dX2_joins_89) (fun _ => ?_)
      refine rk_of (fun _ _ _ _ _ k => lr_aload_n hx hb dX2_joins_92 rfl (lv_at hl 1 rfl) (lr_aload_n hx hb dX2_joins_93 rfl (lv_at hl 1 rfl) k)) ?_
      refine rk_callR hX (cl_V (rest := [va_rf v12]) (av := []) C (hc_X6 H) (ct_X6_span H v12) (lw_V q1495 q1496 q1497 q137 q1498) ⟨rfl, hd_X6_span⟩ ⟨(Nat.le_of_ble_eq_true rfl), (Nat.le_of_ble_eq_true rfl)⟩ rfl hl.1 rfl (zw_le (zw_R zw_nil) (Nat.le_of_ble_eq_true rfl)) dX2_joins_94) (fun v94 => ?_)
      refine rk_of (fun _ _ _ _ _ k => lr_aload hx hb dX2_joins_97 (lv_at hl 2 rfl) k) ?_
      refine rk_callR hX (cl_V (rest := [va_rf v12]) (av := [va_rf v18]) C (hc_X5 H) (ct_X5_with H v94 v18) (lw_V q1559 q1560 q1561 q135 q1562) ⟨rfl, hd_X5_with⟩ ⟨(Nat.le_of_ble_eq_true rfl), (Nat.le_of_ble_eq_true rfl)⟩ rfl hl.1 rfl (zw_le (zw_R zw_nil) (Nat.le_of_ble_eq_true rfl)) dX2_joins_99) (fun v99 => ?_)
      refine rk_callV hX (cl_V (rest := []) (av := [va_rf v99]) C (hc_X6 H) (ct_X6_becomes H v12 v99) (lw_V q1516 q1517 q1518 q137 q1519) ⟨rfl, hd_X6_becomes⟩ ⟨(Nat.le_of_ble_eq_true rfl), (Nat.le_of_ble_eq_true rfl)⟩ rfl hl.1 rfl (zw_le zw_nil (Nat.le_of_ble_eq_true rfl)) dX2_joins_102) (fun _ => ?_)
      refine rk_of (fun _ _ _ _ _ k => lr_aload_n hx hb dX2_joins_105 rfl (lv_at hl 0 rfl) (lv_dup hx hb dX2_joins_106 (va_rf_cat _) k)) ?_
      refine rk_get zm_rdI_eq C (hc_X2 H) (k := 5) (Nat.le_of_ble_eq_true rfl) in_X2 q202 (fun _ h => h) dX2_joins_107 (fun v107 => ?_)
      refine rk_of (fun _ _ _ _ _ k => lv_iconst (v := 1) hx hb dX2_joins_110 rfl (lv_iadd hx hb dX2_joins_111 k)) ?_
      refine rk_put C H.2.2.1 (hc_X2 H) (k := 5) (Nat.le_of_ble_eq_true rfl) in_X2 (ty0 := tyX2) tyX2_ok nmX2 q202 (fun _ h => h) (Or.inl rfl) rfl rfl dX2_joins_112 ?_
      refine rk_of (fun _ _ _ _ _ k => lr_aload_n hx hb dX2_joins_115 rfl (lv_at hl 1 rfl) k) ?_
      refine rk_callI hX (cl_D (n := 0) (rest := []) (av := []) C (hc_X6 H) (ct_X7_length H v12) (lw_meth q1113) q140 ((zh_df H).choose_spec.1 _ (List.mem_of_getElem? (i := 4) rfl)) ((zh_df H).choose_spec.1 _ (List.mem_of_getElem? (i := 5) rfl)) ((zh_df H).choose_spec.2 _ (List.mem_of_getElem? (i := 2) rfl)) (zn_wD H C q1109) q1111 (by decide) (by decide +kernel) ⟨(Nat.le_of_ble_eq_true rfl), (Nat.le_of_ble_eq_true rfl)⟩ rfl hl.1 rfl (zw_le zw_nil (Nat.le_of_ble_eq_true rfl)) dX2_joins_116) (fun v116 => ?_)
      exact rk_top (rf_iret C rfl dX2_joins_119)
    · refine rk_ite (fun _ _ _ _ _ k1 k2 => lv_if_ne (tgt := 75) hx hb dX2_joins_68 (by decide) k2 k1) (fun c_68 => ?_) (fun c_68 => ?_)
      · refine rk_of (fun _ _ _ _ _ k => lv_iconst (v := 1) hx hb dX2_joins_71 rfl (lv_goto (tgt := 76) hx hb dX2_joins_72 (by decide) k)) ?_
        exact hJ76 1 ls (lv_sub hl [0, 1, 2] rfl)
      · refine rk_of (fun _ _ _ _ _ k => lv_iconst (v := 0) hx hb dX2_joins_75 rfl k) ?_
        exact hJ76 0 ls (lv_sub hl [0, 1, 2] rfl)
  · refine rk_ite (fun _ _ _ _ _ k1 k2 => lv_icmp_ne (tgt := 51) hx hb dX2_joins_32 (by decide) k2 k1) (fun c_32 => ?_) (fun c_32 => ?_)
    · refine rk_of (fun _ _ _ _ _ k => lr_aload_n hx hb dX2_joins_35 rfl (lv_at hl 1 rfl) k) ?_
      refine rk_callI hX (cl_V (rest := []) (av := []) C (hc_X6 H) (ct_X6_party H v12) (lw_V q1534 q1535 q1536 q137 q1537) ⟨rfl, hd_X6_party⟩ ⟨(Nat.le_of_ble_eq_true rfl), (Nat.le_of_ble_eq_true rfl)⟩ rfl hl.1 rfl (zw_le zw_nil (Nat.le_of_ble_eq_true rfl)) dX2_joins_36) (fun v36 => ?_)
      refine rk_of (fun _ _ _ _ _ k => lr_aload hx hb dX2_joins_39 (lv_at hl 0 rfl) k) ?_
      refine rk_callI hX (cl_V (rest := [.int v36]) (av := []) C (hc_X6 H) (ct_X6_party H v18) (lw_V q1534 q1535 q1536 q137 q1537) ⟨rfl, hd_X6_party⟩ ⟨(Nat.le_of_ble_eq_true rfl), (Nat.le_of_ble_eq_true rfl)⟩ rfl hl.1 rfl (zw_le (zw_I zw_nil) (Nat.le_of_ble_eq_true rfl)) dX2_joins_41) (fun v41 => ?_)
      refine rk_ite (fun _ _ _ _ _ k1 k2 => lv_icmp_ne (tgt := 51) hx hb dX2_joins_44 (by decide) k2 k1) (fun c_44 => ?_) (fun c_44 => ?_)
      · refine rk_of (fun _ _ _ _ _ k => lv_iconst (v := 1) hx hb dX2_joins_47 rfl (lv_goto (tgt := 52) hx hb dX2_joins_48 (by decide) k)) ?_
        exact hJ52 1 ls (lv_sub hl [2, 1, 0] rfl)
      · refine rk_of (fun _ _ _ _ _ k => lv_iconst (v := 0) hx hb dX2_joins_51 rfl k) ?_
        exact hJ52 0 ls (lv_sub hl [2, 1, 0] rfl)
    · refine rk_of (fun _ _ _ _ _ k => lv_iconst (v := 0) hx hb dX2_joins_51 rfl k) ?_
      exact hJ52 0 ls (lv_sub hl [2, 1, 0] rfl)
theorem hd_X1_lambda_join_5 : yX1_lambda_join_5.cls ≠ "java/lang/invoke/MethodHandle" ∧ yX1_lambda_join_5.cls ≠ "java/lang/invoke/VarHandle" ∧ (parseMethodDescriptor yX1_lambda_join_5.desc).map (fun d => d.parameters.length) = some 3 := by decide +kernel
noncomputable def fn_X1_lambda_join_5 (K : zm_K) (a0 : Int32) (a1 : Int32) (a2 : zm_R) : zm_M Int32 :=
  zm_bnd (zm_bnd (zm_is a2 19) fun _ => fn_X2_joins K a2 a0 a1) fun v3 =>
  zm_ret v3
theorem ct_X1_lambda_join_5 {l : Launch} {Ω : zm_W} {K : zm_K} (H : zm_H Ω K) (a0 : Int32) (a1 : Int32) (a2 : zm_R) : zm_Ct l Ω yX1_lambda_join_5 (ws_ yX1_lambda_join_5 cX1_lambda_join_5 3 (Option.some Jvm.ClassFile.FieldType.int)) 13 320 [.int a0, .int a1, va_rf a2] zm_tvI (fn_X1_lambda_join_5 K a0 a1 a2) := by
  refine zm_ct H.1 (by decide +kernel) (zl_le (zl_I (zl_I (zl_R zl_nil))) (Nat.le_of_ble_eq_true rfl)) ?_
  intro p e R s m args below meth c n0 k0 C hX ls hl
  have hx := C.1
  have hb := C.2.1
  simp only [zg_I, zg_R, zg_nil] at hl
  have hl : lv_has ls 3 [(0, .int a0), (1, .int a1), (2, va_rf a2)] := hl
  refine rk_rf ?_
  unfold fn_X1_lambda_join_5
  refine rk_of (fun _ _ _ _ _ k => lr_aload_n hx hb dX1_lambda_join_5_0 rfl (lv_at hl 2 rfl) (lv_iload_n hx hb dX1_lambda_join_5_1 rfl (lv_at hl 0 rfl) (lv_iload_n hx hb dX1_lambda_join_5_2 rfl (lv_at hl 1 rfl) k))) ?_
  refine rk_callI hX (cl_V (rest := []) (av := [.int a0, .int a1]) C (hc_X2 H) (ct_X2_joins H a2 a0 a1) (lw_V q1550 q1551 q1552 q102 q1553) ⟨rfl, hd_X2_joins⟩ ⟨(Nat.le_of_ble_eq_true rfl), (Nat.le_of_ble_eq_true rfl)⟩ rfl hl.1 rfl (zw_le zw_nil (Nat.le_of_ble_eq_true rfl)) dX1_lambda_join_5_3) (fun v3 => ?_)
  exact rk_top (rf_iret C rfl dX1_lambda_join_5_6)
theorem hd_X8_init : yX8_init.cls ≠ "java/lang/invoke/MethodHandle" ∧ yX8_init.cls ≠ "java/lang/invoke/VarHandle" ∧ (parseMethodDescriptor yX8_init.desc).map (fun d => d.parameters.length) = some 2 := by decide +kernel
noncomputable def fn_X8_init (K : zm_K) (a0 : zm_R) (a1 : Int32) (a2 : zm_R) : zm_M Unit :=
  zm_bnd (zm_grd (a0 ≠ none)) fun _ =>
  zm_bnd (zm_putF K a0 24 0 (.int a1)) fun _ =>
  zm_bnd (zm_putF K a0 24 1 (va_rf a2)) fun _ =>
  zm_ret ()
theorem ct_X8_init {l : Launch} {Ω : zm_W} {K : zm_K} (H : zm_H Ω K) (a0 : zm_R) (a1 : Int32) (a2 : zm_R) : zm_Ct l Ω yX8_init (ws_ yX8_init cX8_init 3 (Option.none : Option Jvm.ClassFile.FieldType)) 2 84 [va_rf a0, .int a1, va_rf a2] zm_tvV (fn_X8_init K a0 a1 a2) := by
  refine zm_ct H.1 (by decide +kernel) (zl_le (zl_R (zl_I (zl_R zl_nil))) (Nat.le_of_ble_eq_true rfl)) ?_
  intro p e R s m args below meth c n0 k0 C hX ls hl
  have hx := C.1
  have hb := C.2.1
  simp only [zg_I, zg_R, zg_nil] at hl
  have hl : lv_has ls 3 [(0, va_rf a0), (1, .int a1), (2, va_rf a2)] := hl
  refine rk_rf ?_
  unfold fn_X8_init
  refine rk_of (fun _ _ _ _ _ k => lr_aload_n hx hb dX8_init_0 rfl (lv_at hl 0 rfl) k) ?_
  refine rk_grd (fun hg_1 => ?_)
  refine rk_of (fun _ _ _ _ _ k => zo_init C hl.1 q1614 q156 q157 hg_1 (Nat.le_of_ble_eq_true rfl) (zw_le12 zw_nil (Nat.le_of_ble_eq_true rfl)) dX8_init_1 k) ?_
  refine rk_of (fun _ _ _ _ _ k => lr_aload_n hx hb dX8_init_4 rfl (lv_at hl 0 rfl) (lv_iload_n hx hb dX8_init_5 rfl (lv_at hl 1 rfl) k)) ?_
  refine rk_put C H.2.2.1 (hc_X8 H) (k := 0) (Nat.le_of_ble_eq_true rfl) in_X8 (ty0 := tyX8) tyX8_ok nmX8 q1615 (fun _ h => h) (Or.inr ⟨rfl, rfl, rfl⟩) rfl rfl dX8_init_6 ?_
  refine rk_of (fun _ _ _ _ _ k => lr_aload_n hx hb dX8_init_9 rfl (lv_at hl 0 rfl) (lr_aload_n hx hb dX8_init_10 rfl (lv_at hl 2 rfl) k)) ?_
  refine rk_put C H.2.2.1 (hc_X8 H) (k := 1) (Nat.le_of_ble_eq_true rfl) in_X8 (ty0 := tyX8) tyX8_ok nmX8 q1616 (fun _ h => h) (Or.inr ⟨rfl, rfl, rfl⟩) (zn_R rfl _) (zp_R rfl _) dX8_init_11 ?_
  exact rk_top (rf_vret C dX8_init_14)
theorem hd_X2_wishes : yX2_wishes.cls ≠ "java/lang/invoke/MethodHandle" ∧ yX2_wishes.cls ≠ "java/lang/invoke/VarHandle" ∧ (parseMethodDescriptor yX2_wishes.desc).map (fun d => d.parameters.length) = some 2 := by decide +kernel
noncomputable def fn_X2_wishes (K : zm_K) (a0 : zm_R) (a1 : Int32) (a2 : zm_R) : zm_M Int32 :=
  zm_bnd (zm_getR a0 19 2) fun v1 =>
  zm_bnd (zm_bnd (zm_cls v1) fun ci => if ci = 0 then fn_J2_size K v1 else if ci = 1 then fn_J4_size K v1 else zm_fl) fun v4 =>
  zm_bnd (α := Int32) (
      if 12 ≤ v4 then
        zm_ret 0
      else
        zm_ret 1
    ) fun b19 =>
  zm_bnd (fn_X1_meet K b19 1 12) fun _ =>
  zm_bnd (zm_getR a0 19 2) fun v26 =>
  zm_bnd (zm_new 24 [.int 0, .null]) fun v29 =>
  zm_bnd (fn_X8_init K (some v29) a1 a2) fun _ =>
  zm_bnd (zm_bnd (zm_cls v26) fun ci => if ci = 0 then fn_J2_add K v26 (some v29) else if ci = 1 then fn_J4_add K v26 (some v29) else zm_fl) fun v38 =>
  zm_bnd (zm_getR a0 19 2) fun v45 =>
  zm_bnd (zm_bnd (zm_cls v45) fun ci => if ci = 0 then fn_J2_size K v45 else if ci = 1 then fn_J4_size K v45 else zm_fl) fun v48 =>
  zm_ret (v48 - 1)
theorem ct_X2_wishes {l : Launch} {Ω : zm_W} {K : zm_K} (H : zm_H Ω K) (a0 : zm_R) (a1 : Int32) (a2 : zm_R) : zm_Ct l Ω yX2_wishes (ws_ yX2_wishes cX2_wishes 3 (Option.some Jvm.ClassFile.FieldType.int)) 10 259 [va_rf a0, .int a1, va_rf a2] zm_tvI (fn_X2_wishes K a0 a1 a2) := by
  refine zm_ct H.1 (by decide +kernel) (zl_le (zl_R (zl_I (zl_R zl_nil))) (Nat.le_of_ble_eq_true rfl)) ?_
  intro p e R s m args below meth c n0 k0 C hX ls hl
  have hx := C.1
  have hb := C.2.1
  simp only [zg_I, zg_R, zg_nil] at hl
  have hl : lv_has ls 3 [(0, va_rf a0), (1, .int a1), (2, va_rf a2)] := hl
  refine rk_rf ?_
  unfold fn_X2_wishes
  refine rk_of (fun _ _ _ _ _ k => lr_aload_n hx hb dX2_wishes_0 rfl (lv_at hl 0 rfl) k) ?_
  refine rk_get zm_rdR_eq C (hc_X2 H) (k := 2) (Nat.le_of_ble_eq_true rfl) in_X2 q199 (fun _ h => h) dX2_wishes_1 (fun v1 => ?_)
  refine rk_callI hX (cl_dsp (fun ci => cl_case (cl_F (n := 0) (rest := []) (av := []) C (hc_J2 H) (ct_J2_size H v1) (lw_F q1054 q1057 q752 q105 q753) (zh_Fw H C (by decide) q1056 q1055 q1059 q1058 q309) (by decide +kernel) ⟨(Nat.le_of_ble_eq_true rfl), (Nat.le_of_ble_eq_true rfl)⟩ rfl hl.1 rfl (zw_le zw_nil (Nat.le_of_ble_eq_true rfl)) dX2_wishes_4) (cl_case (cl_F (n := 0) (rest := []) (av := []) C (hc_J4 H) (ct_J4_size H v1) (lw_F q1054 q1060 q755 q107 q756) (zh_Fw H C (by decide) q1056 q1055 q1062 q1061 q336) (by decide +kernel) ⟨(Nat.le_of_ble_eq_true rfl), (Nat.le_of_ble_eq_true rfl)⟩ rfl hl.1 rfl (zw_le zw_nil (Nat.le_of_ble_eq_true rfl)) dX2_wishes_4) (cl_fl)))) (fun v4 => ?_)
  refine rk_of (fun _ _ _ _ _ k => lv_bipush (v := 12) hx hb dX2_wishes_9 rfl k) ?_
  refine rk_join (β := Int32) (fun (b19 : Int32) ls => lv_has ls 3 [(0, va_rf a0), (1, .int a1), (2, va_rf a2)]) (fun (b19 : Int32) ls => F0 m 19 ls [.int b19]) (fun b19 ls hl => ?_) (fun hJ19 => ?_)
  · refine rk_of (fun _ _ _ _ _ k => lv_iconst (v := 1) hx hb dX2_wishes_19 rfl (lv_bipush (v := 12) hx hb dX2_wishes_20 rfl k)) ?_
    refine rk_callV hX (cl_SN (rest := []) C (ct_X1_meet H b19 1 12) (lw_meth q1151) q101 (zn_wM H C q1149) q1150 hd_X1_meet ⟨(Nat.le_of_ble_eq_true rfl), (Nat.le_of_ble_eq_true rfl)⟩ rfl hl.1 rfl (zw_le zw_nil (Nat.le_of_ble_eq_true rfl)) dX2_wishes_22) (fun _ => ?_)
    refine rk_of (fun _ _ _ _ _ k => lr_aload_n hx hb dX2_wishes_25 rfl (lv_at hl 0 rfl) k) ?_
    refine rk_get zm_rdR_eq C (hc_X2 H) (k := 2) (Nat.le_of_ble_eq_true rfl) in_X2 q199 (fun _ h => h) dX2_wishes_26 (fun v26 => ?_)
    refine rk_new C (hc_X8 H) in_X8 tyX8_ok q993 q1610 q141 (fs := [.int 0, .null]) rfl (fun j hj => zdf_X8 j hj) dX2_wishes_29 (fun v29 => ?_)
    refine rk_of (fun _ _ _ _ _ k => lv_dup hx hb dX2_wishes_32 (va_rf_cat _) (lv_iload_n hx hb dX2_wishes_33 rfl (lv_at hl 1 rfl) (lr_aload_n hx hb dX2_wishes_34 rfl (lv_at hl 2 rfl) k))) ?_
    refine rk_callV hX (cl_I (rest := [va_rf (some v29), va_rf v26]) C (ct_X8_init H (some v29) a1 a2) (lw_meth q1613) q141 q1611 q1612 rfl hd_X8_init ⟨(Nat.le_of_ble_eq_true rfl), (Nat.le_of_ble_eq_true rfl)⟩ rfl hl.1 rfl (zw_le (zw_R (zw_R zw_nil)) (Nat.le_of_ble_eq_true rfl)) dX2_wishes_35) (fun _ => ?_)
    refine rk_callI hX (cl_dsp (fun ci => cl_case (cl_F (n := 1) (rest := []) (av := [va_rf (some v29)]) C (hc_J2 H) (ct_J2_add H v26 (some v29)) (lw_F q1199 q1202 q1204 q105 q1206) (zh_Fw H C (by decide) q1201 q1200 q1205 q1203 q309) (by decide +kernel) ⟨(Nat.le_of_ble_eq_true rfl), (Nat.le_of_ble_eq_true rfl)⟩ rfl hl.1 rfl (zw_le zw_nil (Nat.le_of_ble_eq_true rfl)) dX2_wishes_38) (cl_case (cl_F (n := 1) (rest := []) (av := [va_rf (some v29)]) C (hc_J4 H) (ct_J4_add H v26 (some v29)) (lw_F q1199 q1232 q1234 q107 q1236) (zh_Fw H C (by decide) q1201 q1200 q1235 q1233 q336) (by decide +kernel) ⟨(Nat.le_of_ble_eq_true rfl), (Nat.le_of_ble_eq_true rfl)⟩ rfl hl.1 rfl (zw_le zw_nil (Nat.le_of_ble_eq_true rfl)) dX2_wishes_38) (cl_fl)))) (fun v38 => ?_)
    refine rk_of (fun _ _ _ _ _ k => lv_pop hx hb dX2_wishes_43 rfl (lr_aload_n hx hb dX2_wishes_44 rfl (lv_at hl 0 rfl) k)) ?_
    refine rk_get zm_rdR_eq C (hc_X2 H) (k := 2) (Nat.le_of_ble_eq_true rfl) in_X2 q199 (fun _ h => h) dX2_wishes_45 (fun v45 => ?_)
    refine rk_callI hX (cl_dsp (fun ci => cl_case (cl_F (n := 0) (rest := []) (av := []) C (hc_J2 H) (ct_J2_size H v45) (lw_F q1054 q1057 q752 q105 q753) (zh_Fw H C (by decide) q1056 q1055 q1059 q1058 q309) (by decide +kernel) ⟨(Nat.le_of_ble_eq_true rfl), (Nat.le_of_ble_eq_true rfl)⟩ rfl hl.1 rfl (zw_le zw_nil (Nat.le_of_ble_eq_true rfl)) dX2_wishes_48) (cl_case (cl_F (n := 0) (rest := []) (av := []) C (hc_J4 H) (ct_J4_size H v45) (lw_F q1054 q1060 q755 q107 q756) (zh_Fw H C (by decide) q1056 q1055 q1062 q1061 q336) (by decide +kernel) ⟨(Nat.le_of_ble_eq_true rfl), (Nat.le_of_ble_eq_true rfl)⟩ rfl hl.1 rfl (zw_le zw_nil (Nat.le_of_ble_eq_true rfl)) dX2_wishes_48) (cl_fl)))) (fun v48 => ?_)
    refine rk_of (fun _ _ _ _ _ k => lv_iconst (v := 1) hx hb dX2_wishes_53 rfl (lv_isub hx hb dX2_wishes_54 k)) ?_
    exact rk_top (rf_iret C rfl dX2_wishes_55)
  · refine rk_ite (fun _ _ _ _ _ k1 k2 => lv_icmp_ge (tgt := 18) hx hb dX2_wishes_11 (by decide) k1 k2) (fun c_11 => ?_) (fun c_11 => ?_)
    · refine rk_of (fun _ _ _ _ _ k => lv_iconst (v := 0) hx hb dX2_wishes_18 rfl k) ?_
      exact hJ19 0 ls (lv_sub hl [0, 1, 2] rfl)
    · refine rk_of (fun _ _ _ _ _ k => lv_iconst (v := 1) hx hb dX2_wishes_14 rfl (lv_goto (tgt := 19) hx hb dX2_wishes_15 (by decide) k)) ?_
      exact hJ19 1 ls (lv_sub hl [0, 1, 2] rfl)
theorem hd_X1_lambda_wish_6 : yX1_lambda_wish_6.cls ≠ "java/lang/invoke/MethodHandle" ∧ yX1_lambda_wish_6.cls ≠ "java/lang/invoke/VarHandle" ∧ (parseMethodDescriptor yX1_lambda_wish_6.desc).map (fun d => d.parameters.length) = some 3 := by decide +kernel
noncomputable def fn_X1_lambda_wish_6 (K : zm_K) (a0 : Int32) (a1 : zm_R) (a2 : zm_R) : zm_M Int32 :=
  zm_bnd (zm_bnd (zm_is a2 19) fun _ => fn_X2_wishes K a2 a0 a1) fun v3 =>
  zm_ret v3
theorem ct_X1_lambda_wish_6 {l : Launch} {Ω : zm_W} {K : zm_K} (H : zm_H Ω K) (a0 : Int32) (a1 : zm_R) (a2 : zm_R) : zm_Ct l Ω yX1_lambda_wish_6 (ws_ yX1_lambda_wish_6 cX1_lambda_wish_6 3 (Option.some Jvm.ClassFile.FieldType.int)) 11 281 [.int a0, va_rf a1, va_rf a2] zm_tvI (fn_X1_lambda_wish_6 K a0 a1 a2) := by
  refine zm_ct H.1 (by decide +kernel) (zl_le (zl_I (zl_R (zl_R zl_nil))) (Nat.le_of_ble_eq_true rfl)) ?_
  intro p e R s m args below meth c n0 k0 C hX ls hl
  have hx := C.1
  have hb := C.2.1
  simp only [zg_I, zg_R, zg_nil] at hl
  have hl : lv_has ls 3 [(0, .int a0), (1, va_rf a1), (2, va_rf a2)] := hl
  refine rk_rf ?_
  unfold fn_X1_lambda_wish_6
  refine rk_of (fun _ _ _ _ _ k => lr_aload_n hx hb dX1_lambda_wish_6_0 rfl (lv_at hl 2 rfl) (lv_iload_n hx hb dX1_lambda_wish_6_1 rfl (lv_at hl 0 rfl) (lr_aload_n hx hb dX1_lambda_wish_6_2 rfl (lv_at hl 1 rfl) k))) ?_
  refine rk_callI hX (cl_V (rest := []) (av := [.int a0, va_rf a1]) C (hc_X2 H) (ct_X2_wishes H a2 a0 a1) (lw_V q1606 q1607 q1608 q102 q1609) ⟨rfl, hd_X2_wishes⟩ ⟨(Nat.le_of_ble_eq_true rfl), (Nat.le_of_ble_eq_true rfl)⟩ rfl hl.1 rfl (zw_le zw_nil (Nat.le_of_ble_eq_true rfl)) dX1_lambda_wish_6_3) (fun v3 => ?_)
  exact rk_top (rf_iret C rfl dX1_lambda_wish_6_6)
theorem hd_J2_fastRemove : yJ2_fastRemove.cls ≠ "java/lang/invoke/MethodHandle" ∧ yJ2_fastRemove.cls ≠ "java/lang/invoke/VarHandle" ∧ (parseMethodDescriptor yJ2_fastRemove.desc).map (fun d => d.parameters.length) = some 2 := by decide +kernel
noncomputable def fn_J2_fastRemove (K : zm_K) (a0 : zm_R) (a1 : zm_R) (a2 : Int32) : zm_M Unit :=
  zm_bnd (zm_getI a0 0 0) fun v2 =>
  zm_bnd (zm_putF K a0 0 0 (.int (v2 + 1))) fun _ =>
  zm_bnd (zm_getI a0 0 2) fun v11 =>
  zm_bnd (α := Unit) (
      if (v11 - 1) ≤ a2 then
        zm_ret ()
      else
        zm_bnd (zm_cpR K zm_oc a1 (a2 + 1) a1 a2 ((v11 - 1) - a2)) fun _ =>
        zm_ret ()
    ) fun (_ : Unit) =>
  zm_bnd (zm_putF K a0 0 2 (.int (v11 - 1))) fun _ =>
  zm_bnd (zm_astO K zm_oc a1 (v11 - 1) none) fun _ =>
  zm_ret ()
theorem ct_J2_fastRemove {l : Launch} {Ω : zm_W} {K : zm_K} (H : zm_H Ω K) (a0 : zm_R) (a1 : zm_R) (a2 : Int32) : zm_Ct l Ω yJ2_fastRemove (ws_ yJ2_fastRemove cJ2_fastRemove 4 (Option.none : Option Jvm.ClassFile.FieldType)) 4 128 [va_rf a0, va_rf a1, .int a2] zm_tvV (fn_J2_fastRemove K a0 a1 a2) := by
  refine zm_ct H.1 (by decide +kernel) (zl_le (zl_R (zl_R (zl_I zl_nil))) (Nat.le_of_ble_eq_true rfl)) ?_
  intro p e R s m args below meth c n0 k0 C hX ls hl
  have hx := C.1
  have hb := C.2.1
  simp only [zg_I, zg_R, zg_nil] at hl
  have hl : lv_has ls 4 [(0, va_rf a0), (1, va_rf a1), (2, .int a2)] := hl
  refine rk_rf ?_
  unfold fn_J2_fastRemove
  refine rk_of (fun _ _ _ _ _ k => lr_aload_n hx hb dJ2_fastRemove_0 rfl (lv_at hl 0 rfl) (lv_dup hx hb dJ2_fastRemove_1 (va_rf_cat _) k)) ?_
  refine rk_get zm_rdI_eq C (hc_J2 H) (k := 0) (Nat.le_of_ble_eq_true rfl) in_J2 q189 (u_same (C.2.2.2.1 _ q186)) dJ2_fastRemove_2 (fun v2 => ?_)
  refine rk_of (fun _ _ _ _ _ k => lv_iconst (v := 1) hx hb dJ2_fastRemove_5 rfl (lv_iadd hx hb dJ2_fastRemove_6 k)) ?_
  refine rk_put C H.2.2.1 (hc_J2 H) (k := 0) (Nat.le_of_ble_eq_true rfl) in_J2 (ty0 := tyJ2) tyJ2_ok nmJ2 q189 (u_same (C.2.2.2.1 _ q186)) (Or.inl rfl) rfl rfl dJ2_fastRemove_7 ?_
  refine rk_of (fun _ _ _ _ _ k => lr_aload_n hx hb dJ2_fastRemove_10 rfl (lv_at hl 0 rfl) k) ?_
  refine rk_get zm_rdI_eq C (hc_J2 H) (k := 2) (Nat.le_of_ble_eq_true rfl) in_J2 q181 (fun _ h => h) dJ2_fastRemove_11 (fun v11 => ?_)
  refine rk_ofs (fun _ _ _ _ _ k => lv_iconst (v := 1) hx hb dJ2_fastRemove_14 rfl (lv_isub hx hb dJ2_fastRemove_15 (lv_dup hx hb dJ2_fastRemove_16 rfl (lr_istore_n hx hb dJ2_fastRemove_17 rfl hl (Nat.le_of_ble_eq_true rfl) [0, 1, 2] rfl ⟨trivial, ⟨trivial, ⟨rfl, trivial⟩⟩⟩ k)))) (fun ls hl => ?_)
  refine rk_of (fun _ _ _ _ _ k => lv_iload_n hx hb dJ2_fastRemove_18 rfl (lv_at hl 3 rfl) k) ?_
  refine rk_join (β := Unit) (fun (b34 : Unit) ls => lv_has ls 4 [(0, va_rf a0), (1, va_rf a1), (3, .int (v11 - 1))]) (fun (b34 : Unit) ls => F0 m 34 ls []) (fun b34 ls hl => ?_) (fun hJ34 => ?_)
  · refine rk_of (fun _ _ _ _ _ k => lr_aload_n hx hb dJ2_fastRemove_34 rfl (lv_at hl 1 rfl) (lr_aload_n hx hb dJ2_fastRemove_35 rfl (lv_at hl 0 rfl) (lv_iload_n hx hb dJ2_fastRemove_36 rfl (lv_at hl 2 rfl) (lv_dup_x1 hx hb dJ2_fastRemove_37 rfl (va_rf_cat _) k)))) ?_
    refine rk_put C H.2.2.1 (hc_J2 H) (k := 2) (Nat.le_of_ble_eq_true rfl) in_J2 (ty0 := tyJ2) tyJ2_ok nmJ2 q181 (fun _ h => h) (Or.inl rfl) rfl rfl dJ2_fastRemove_38 ?_
    refine rk_of (fun _ _ _ _ _ k => lr_null hx hb dJ2_fastRemove_41 k) ?_
    refine rk_aast C H.2.2.1 (zh_oc H C) dJ2_fastRemove_42 ?_
    exact rk_top (rf_vret C dJ2_fastRemove_43)
  · refine rk_ite (fun _ _ _ _ _ k1 k2 => lv_icmp_le (tgt := 34) hx hb dJ2_fastRemove_19 (by decide) k1 k2) (fun c_19 => ?_) (fun c_19 => ?_)
    · exact hJ34 () ls (lv_sub hl [1, 2, 0] rfl)
    · refine rk_of (fun _ _ _ _ _ k => lr_aload_n hx hb dJ2_fastRemove_22 rfl (lv_at hl 2 rfl) (lv_iload_n hx hb dJ2_fastRemove_23 rfl (lv_at hl 3 rfl) (lv_iconst (v := 1) hx hb dJ2_fastRemove_24 rfl (lv_iadd hx hb dJ2_fastRemove_25 (lr_aload_n hx hb dJ2_fastRemove_26 rfl (lv_at hl 2 rfl) (lv_iload_n hx hb dJ2_fastRemove_27 rfl (lv_at hl 3 rfl) (lv_iload_n hx hb dJ2_fastRemove_28 rfl (lv_at hl 0 rfl) (lv_iload_n hx hb dJ2_fastRemove_29 rfl (lv_at hl 3 rfl) (lv_isub hx hb dJ2_fastRemove_30 k))))))))) ?_
      refine rk_cpR C H.2.2.1 hl.1 (zh_oc H C) q1298 q458 q457 q124 (Nat.le_of_ble_eq_true rfl) (zw_ad zw_nil (Nat.le_of_ble_eq_true rfl)) dJ2_fastRemove_31 ?_
      exact hJ34 () ls (lv_sub hl [1, 2, 0] rfl)
theorem hd_J2_remove : yJ2_remove.cls ≠ "java/lang/invoke/MethodHandle" ∧ yJ2_remove.cls ≠ "java/lang/invoke/VarHandle" ∧ (parseMethodDescriptor yJ2_remove.desc).map (fun d => d.parameters.length) = some 1 := by decide +kernel
noncomputable def fn_J2_remove (K : zm_K) (a0 : zm_R) (a1 : Int32) : zm_M zm_R :=
  zm_bnd (zm_getI a0 0 2) fun v2 =>
  zm_bnd (fn_J27_checkIndex K a1 v2) fun v5 =>
  zm_bnd (zm_getR a0 0 1) fun v10 =>
  zm_bnd (zm_aldR v10 a1) fun v16 =>
  zm_bnd (zm_bnd (zm_is a0 0) fun _ => fn_J2_fastRemove K a0 v10 a1) fun _ =>
  zm_ret v16
theorem ct_J2_remove {l : Launch} {Ω : zm_W} {K : zm_K} (H : zm_H Ω K) (a0 : zm_R) (a1 : Int32) : zm_Ct l Ω yJ2_remove (ws_ yJ2_remove cJ2_remove 4 (Option.some (Jvm.ClassFile.FieldType.object "java/lang/Object"))) 5 151 [va_rf a0, .int a1] zm_tvR (fn_J2_remove K a0 a1) := by
  refine zm_ct H.1 (by decide +kernel) (zl_le (zl_R (zl_I zl_nil)) (Nat.le_of_ble_eq_true rfl)) ?_
  intro p e R s m args below meth c n0 k0 C hX ls hl
  have hx := C.1
  have hb := C.2.1
  simp only [zg_I, zg_R, zg_nil] at hl
  have hl : lv_has ls 4 [(0, va_rf a0), (1, .int a1)] := hl
  refine rk_rf ?_
  unfold fn_J2_remove
  refine rk_of (fun _ _ _ _ _ k => lv_iload_n hx hb dJ2_remove_0 rfl (lv_at hl 1 rfl) (lr_aload_n hx hb dJ2_remove_1 rfl (lv_at hl 0 rfl) k)) ?_
  refine rk_get zm_rdI_eq C (hc_J2 H) (k := 2) (Nat.le_of_ble_eq_true rfl) in_J2 q181 (fun _ h => h) dJ2_remove_2 (fun v2 => ?_)
  refine rk_callI hX (cl_S (rest := []) C (ct_J27_checkIndex H a1 v2) (lw_S q849 q850 q136 q851) hd_J27_checkIndex ⟨(Nat.le_of_ble_eq_true rfl), (Nat.le_of_ble_eq_true rfl)⟩ rfl hl.1 rfl (zw_le zw_nil (Nat.le_of_ble_eq_true rfl)) dJ2_remove_5) (fun v5 => ?_)
  refine rk_of (fun _ _ _ _ _ k => lv_pop hx hb dJ2_remove_8 rfl (lr_aload_n hx hb dJ2_remove_9 rfl (lv_at hl 0 rfl) k)) ?_
  refine rk_get zm_rdR_eq C (hc_J2 H) (k := 1) (Nat.le_of_ble_eq_true rfl) in_J2 q178 (fun _ h => h) dJ2_remove_10 (fun v10 => ?_)
  refine rk_ofs (fun _ _ _ _ _ k => lr_astore_n hx hb dJ2_remove_13 rfl hl (Nat.le_of_ble_eq_true rfl) [0, 1] rfl ⟨trivial, ⟨rfl, trivial⟩⟩ k) (fun ls hl => ?_)
  refine rk_of (fun _ _ _ _ _ k => lr_aload_n hx hb dJ2_remove_14 rfl (lv_at hl 0 rfl) (lv_iload_n hx hb dJ2_remove_15 rfl (lv_at hl 2 rfl) k)) ?_
  refine rk_aald C dJ2_remove_16 (fun v16 => ?_)
  refine rk_ofs (fun _ _ _ _ _ k => lr_astore_n hx hb dJ2_remove_17 rfl hl (Nat.le_of_ble_eq_true rfl) [0, 1, 2] rfl ⟨(by first | exact va_rf_cat _ | rfl), ⟨trivial, ⟨trivial, trivial⟩⟩⟩ k) (fun ls hl => ?_)
  refine rk_of (fun _ _ _ _ _ k => lr_aload_n hx hb dJ2_remove_18 rfl (lv_at hl 2 rfl) (lr_aload_n hx hb dJ2_remove_19 rfl (lv_at hl 1 rfl) (lv_iload_n hx hb dJ2_remove_20 rfl (lv_at hl 3 rfl) k))) ?_
  refine rk_callV hX (cl_V (rest := []) (av := [va_rf v10, .int a1]) C (hc_J2 H) (ct_J2_fastRemove H a0 v10 a1) (lw_V q1647 q1649 qs21 q105 q1650) ⟨rfl, hd_J2_fastRemove⟩ ⟨(Nat.le_of_ble_eq_true rfl), (Nat.le_of_ble_eq_true rfl)⟩ rfl hl.1 rfl (zw_le zw_nil (Nat.le_of_ble_eq_true rfl)) dJ2_remove_21) (fun _ => ?_)
  refine rk_of (fun _ _ _ _ _ k => lr_aload_n hx hb dJ2_remove_24 rfl (lv_at hl 0 rfl) k) ?_
  exact rk_top (rf_aret C (Or.inl ⟨_, rfl⟩) dJ2_remove_25)
theorem hd_J4_unlink : yJ4_unlink.cls ≠ "java/lang/invoke/MethodHandle" ∧ yJ4_unlink.cls ≠ "java/lang/invoke/VarHandle" ∧ (parseMethodDescriptor yJ4_unlink.desc).map (fun d => d.parameters.length) = some 1 := by decide +kernel
noncomputable def fn_J4_unlink (K : zm_K) (a0 : zm_R) (a1 : zm_R) : zm_M zm_R :=
  zm_bnd (zm_getR a1 7 0) fun v1 =>
  zm_bnd (zm_getR a1 7 1) fun v6 =>
  zm_bnd (zm_getR a1 7 2) fun v11 =>
  zm_bnd (α := Unit) (
      if v11 = none then
        zm_bnd (zm_putF K a0 1 2 (va_rf v6)) fun _ =>
        zm_ret ()
      else
        zm_bnd (zm_putF K v11 7 1 (va_rf v6)) fun _ =>
        zm_bnd (zm_putF K a1 7 2 (va_rf none)) fun _ =>
        zm_ret ()
    ) fun (_ : Unit) =>
  zm_bnd (α := Unit) (
      if v6 = none then
        zm_bnd (zm_putF K a0 1 3 (va_rf v11)) fun _ =>
        zm_ret ()
      else
        zm_bnd (zm_putF K v6 7 2 (va_rf v11)) fun _ =>
        zm_bnd (zm_putF K a1 7 1 (va_rf none)) fun _ =>
        zm_ret ()
    ) fun (_ : Unit) =>
  zm_bnd (zm_putF K a1 7 0 (va_rf none)) fun _ =>
  zm_bnd (zm_getI a0 1 1) fun v71 =>
  zm_bnd (zm_putF K a0 1 1 (.int (v71 - 1))) fun _ =>
  zm_bnd (zm_getI a0 1 0) fun v81 =>
  zm_bnd (zm_putF K a0 1 0 (.int (v81 + 1))) fun _ =>
  zm_ret v1
theorem ct_J4_unlink {l : Launch} {Ω : zm_W} {K : zm_K} (H : zm_H Ω K) (a0 : zm_R) (a1 : zm_R) : zm_Ct l Ω yJ4_unlink (ws_ yJ4_unlink cJ4_unlink 5 (Option.some (Jvm.ClassFile.FieldType.object "java/lang/Object"))) 1 64 [va_rf a0, va_rf a1] zm_tvR (fn_J4_unlink K a0 a1) := by
  refine zm_ct H.1 (by decide +kernel) (zl_le (zl_R (zl_R zl_nil)) (Nat.le_of_ble_eq_true rfl)) ?_
  intro p e R s m args below meth c n0 k0 C hX ls hl
  have hx := C.1
  have hb := C.2.1
  simp only [zg_R, zg_nil] at hl
  have hl : lv_has ls 5 [(0, va_rf a0), (1, va_rf a1)] := hl
  refine rk_rf ?_
  unfold fn_J4_unlink
  refine rk_of (fun _ _ _ _ _ k => lr_aload_n hx hb dJ4_unlink_0 rfl (lv_at hl 1 rfl) k) ?_
  refine rk_get zm_rdR_eq C (hc_J18 H) (k := 0) (Nat.le_of_ble_eq_true rfl) in_J18 q1249 (fun _ h => h) dJ4_unlink_1 (fun v1 => ?_)
  refine rk_ofs (fun _ _ _ _ _ k => lr_astore_n hx hb dJ4_unlink_4 rfl hl (Nat.le_of_ble_eq_true rfl) [0, 1] rfl ⟨trivial, ⟨(by first | exact va_rf_cat _ | rfl), trivial⟩⟩ k) (fun ls hl => ?_)
  refine rk_of (fun _ _ _ _ _ k => lr_aload_n hx hb dJ4_unlink_5 rfl (lv_at hl 2 rfl) k) ?_
  refine rk_get zm_rdR_eq C (hc_J18 H) (k := 1) (Nat.le_of_ble_eq_true rfl) in_J18 q1252 (fun _ h => h) dJ4_unlink_6 (fun v6 => ?_)
  refine rk_ofs (fun _ _ _ _ _ k => lr_astore_n hx hb dJ4_unlink_9 rfl hl (Nat.le_of_ble_eq_true rfl) [0, 1, 2] rfl ⟨(by first | exact va_rf_cat _ | rfl), ⟨trivial, ⟨trivial, trivial⟩⟩⟩ k) (fun ls hl => ?_)
  refine rk_of (fun _ _ _ _ _ k => lr_aload_n hx hb dJ4_unlink_10 rfl (lv_at hl 3 rfl) k) ?_
  refine rk_get zm_rdR_eq C (hc_J18 H) (k := 2) (Nat.le_of_ble_eq_true rfl) in_J18 q1254 (fun _ h => h) dJ4_unlink_11 (fun v11 => ?_)
  refine rk_ofs (fun _ _ _ _ _ k => lr_astore hx hb dJ4_unlink_14 hl (Nat.le_of_ble_eq_true rfl) [0, 1, 2, 3] rfl ⟨(by first | exact va_rf_cat _ | rfl), ⟨trivial, ⟨trivial, ⟨trivial, trivial⟩⟩⟩⟩ k) (fun ls hl => ?_)
  refine rk_of (fun _ _ _ _ _ k => lr_aload hx hb dJ4_unlink_16 (lv_at hl 0 rfl) k) ?_
  refine rk_join (β := Unit) (fun (b40 : Unit) ls => lv_has ls 5 [(0, va_rf a0), (1, va_rf a1), (2, va_rf v1), (3, va_rf v6), (4, va_rf v11)]) (fun (b40 : Unit) ls => F0 m 40 ls []) (fun b40 ls hl => ?_) (fun hJ40 => ?_)
  · refine rk_of (fun _ _ _ _ _ k => lr_aload_n hx hb dJ4_unlink_40 rfl (lv_at hl 3 rfl) k) ?_
    refine rk_join (β := Unit) (fun (b64 : Unit) ls => lv_has ls 5 [(0, va_rf a0), (1, va_rf a1), (2, va_rf v1)]) (fun (b64 : Unit) ls => F0 m 64 ls []) (fun b64 ls hl => ?_) (fun hJ64 => ?_)
    · refine rk_of (fun _ _ _ _ _ k => lr_aload_n hx hb dJ4_unlink_64 rfl (lv_at hl 1 rfl) (lr_null hx hb dJ4_unlink_65 k)) ?_
      refine rk_put C H.2.2.1 (hc_J18 H) (k := 0) (Nat.le_of_ble_eq_true rfl) in_J18 (ty0 := tyJ18) tyJ18_ok nmJ18 q1249 (fun _ h => h) (Or.inl rfl) (zn_R rfl _) (zp_R rfl _) dJ4_unlink_66 ?_
      refine rk_of (fun _ _ _ _ _ k => lr_aload_n hx hb dJ4_unlink_69 rfl (lv_at hl 0 rfl) (lv_dup hx hb dJ4_unlink_70 (va_rf_cat _) k)) ?_
      refine rk_get zm_rdI_eq C (hc_J4 H) (k := 1) (Nat.le_of_ble_eq_true rfl) in_J4 q225 (fun _ h => h) dJ4_unlink_71 (fun v71 => ?_)
      refine rk_of (fun _ _ _ _ _ k => lv_iconst (v := 1) hx hb dJ4_unlink_74 rfl (lv_isub hx hb dJ4_unlink_75 k)) ?_
      refine rk_put C H.2.2.1 (hc_J4 H) (k := 1) (Nat.le_of_ble_eq_true rfl) in_J4 (ty0 := tyJ4) tyJ4_ok nmJ4 q225 (fun _ h => h) (Or.inl rfl) rfl rfl dJ4_unlink_76 ?_
      refine rk_of (fun _ _ _ _ _ k => lr_aload_n hx hb dJ4_unlink_79 rfl (lv_at hl 0 rfl) (lv_dup hx hb dJ4_unlink_80 (va_rf_cat _) k)) ?_
      refine rk_get zm_rdI_eq C (hc_J4 H) (k := 0) (Nat.le_of_ble_eq_true rfl) in_J4 q188 (u_same (C.2.2.2.1 _ q184)) dJ4_unlink_81 (fun v81 => ?_)
      refine rk_of (fun _ _ _ _ _ k => lv_iconst (v := 1) hx hb dJ4_unlink_84 rfl (lv_iadd hx hb dJ4_unlink_85 k)) ?_
      refine rk_put C H.2.2.1 (hc_J4 H) (k := 0) (Nat.le_of_ble_eq_true rfl) in_J4 (ty0 := tyJ4) tyJ4_ok nmJ4 q188 (u_same (C.2.2.2.1 _ q184)) (Or.inl rfl) rfl rfl dJ4_unlink_86 ?_
      refine rk_of (fun _ _ _ _ _ k => lr_aload_n hx hb dJ4_unlink_89 rfl (lv_at hl 2 rfl) k) ?_
      exact rk_top (rf_aret C (Or.inl ⟨_, rfl⟩) dJ4_unlink_90)
    · refine rk_ite (fun _ _ _ _ _ k1 k2 => lr_ifnonnull (tgt := 53) hx hb dJ4_unlink_41 (by decide) k2 k1) (fun c_41 => ?_) (fun c_41 => ?_)
      · refine rk_of (fun _ _ _ _ _ k => lr_aload_n hx hb dJ4_unlink_44 rfl (lv_at hl 0 rfl) (lr_aload hx hb dJ4_unlink_45 (lv_at hl 4 rfl) k)) ?_
        refine rk_put C H.2.2.1 (hc_J4 H) (k := 3) (Nat.le_of_ble_eq_true rfl) in_J4 (ty0 := tyJ4) tyJ4_ok nmJ4 q228 (fun _ h => h) (Or.inl rfl) (zn_R rfl _) (zp_R rfl _) dJ4_unlink_47 ?_
        refine rk_of (fun _ _ _ _ _ k => lv_goto (tgt := 64) hx hb dJ4_unlink_50 (by decide) k) ?_
        exact hJ64 () ls (lv_sub hl [0, 1, 2] rfl)
      · refine rk_of (fun _ _ _ _ _ k => lr_aload_n hx hb dJ4_unlink_53 rfl (lv_at hl 3 rfl) (lr_aload hx hb dJ4_unlink_54 (lv_at hl 4 rfl) k)) ?_
        refine rk_put C H.2.2.1 (hc_J18 H) (k := 2) (Nat.le_of_ble_eq_true rfl) in_J18 (ty0 := tyJ18) tyJ18_ok nmJ18 q1254 (fun _ h => h) (Or.inl rfl) (zn_R rfl _) (zp_R rfl _) dJ4_unlink_56 ?_
        refine rk_of (fun _ _ _ _ _ k => lr_aload_n hx hb dJ4_unlink_59 rfl (lv_at hl 1 rfl) (lr_null hx hb dJ4_unlink_60 k)) ?_
        refine rk_put C H.2.2.1 (hc_J18 H) (k := 1) (Nat.le_of_ble_eq_true rfl) in_J18 (ty0 := tyJ18) tyJ18_ok nmJ18 q1252 (fun _ h => h) (Or.inl rfl) (zn_R rfl _) (zp_R rfl _) dJ4_unlink_61 ?_
        exact hJ64 () ls (lv_sub hl [0, 1, 2] rfl)
  · refine rk_ite (fun _ _ _ _ _ k1 k2 => lr_ifnonnull (tgt := 29) hx hb dJ4_unlink_18 (by decide) k2 k1) (fun c_18 => ?_) (fun c_18 => ?_)
    · refine rk_of (fun _ _ _ _ _ k => lr_aload_n hx hb dJ4_unlink_21 rfl (lv_at hl 3 rfl) (lr_aload_n hx hb dJ4_unlink_22 rfl (lv_at hl 1 rfl) k)) ?_
      refine rk_put C H.2.2.1 (hc_J4 H) (k := 2) (Nat.le_of_ble_eq_true rfl) in_J4 (ty0 := tyJ4) tyJ4_ok nmJ4 q227 (fun _ h => h) (Or.inl rfl) (zn_R rfl _) (zp_R rfl _) dJ4_unlink_23 ?_
      refine rk_of (fun _ _ _ _ _ k => lv_goto (tgt := 40) hx hb dJ4_unlink_26 (by decide) k) ?_
      exact hJ40 () ls (lv_sub hl [3, 4, 2, 1, 0] rfl)
    · refine rk_of (fun _ _ _ _ _ k => lr_aload hx hb dJ4_unlink_29 (lv_at hl 0 rfl) (lr_aload_n hx hb dJ4_unlink_31 rfl (lv_at hl 1 rfl) k)) ?_
      refine rk_put C H.2.2.1 (hc_J18 H) (k := 1) (Nat.le_of_ble_eq_true rfl) in_J18 (ty0 := tyJ18) tyJ18_ok nmJ18 q1252 (fun _ h => h) (Or.inl rfl) (zn_R rfl _) (zp_R rfl _) dJ4_unlink_32 ?_
      refine rk_of (fun _ _ _ _ _ k => lr_aload_n hx hb dJ4_unlink_35 rfl (lv_at hl 4 rfl) (lr_null hx hb dJ4_unlink_36 k)) ?_
      refine rk_put C H.2.2.1 (hc_J18 H) (k := 2) (Nat.le_of_ble_eq_true rfl) in_J18 (ty0 := tyJ18) tyJ18_ok nmJ18 q1254 (fun _ h => h) (Or.inl rfl) (zn_R rfl _) (zp_R rfl _) dJ4_unlink_37 ?_
      exact hJ40 () ls (lv_sub hl [3, 4, 2, 1, 0] rfl)
theorem hd_J4_remove : yJ4_remove.cls ≠ "java/lang/invoke/MethodHandle" ∧ yJ4_remove.cls ≠ "java/lang/invoke/VarHandle" ∧ (parseMethodDescriptor yJ4_remove.desc).map (fun d => d.parameters.length) = some 1 := by decide +kernel
noncomputable def fn_J4_remove (K : zm_K) (a0 : zm_R) (a1 : Int32) : zm_M zm_R :=
  zm_bnd (zm_bnd (zm_is a0 1) fun _ => fn_J4_checkElementIndex K a0 a1) fun _ =>
  zm_bnd (zm_bnd (zm_is a0 1) fun _ => fn_J4_node K a0 a1) fun v8 =>
  zm_bnd (zm_bnd (zm_is a0 1) fun _ => fn_J4_unlink K a0 v8) fun v11 =>
  zm_ret v11
theorem ct_J4_remove {l : Launch} {Ω : zm_W} {K : zm_K} (H : zm_H Ω K) (a0 : zm_R) (a1 : Int32) : zm_Ct l Ω yJ4_remove (ws_ yJ4_remove cJ4_remove 2 (Option.some (Jvm.ClassFile.FieldType.object "java/lang/Object"))) 9 233 [va_rf a0, .int a1] zm_tvR (fn_J4_remove K a0 a1) := by
  refine zm_ct H.1 (by decide +kernel) (zl_le (zl_R (zl_I zl_nil)) (Nat.le_of_ble_eq_true rfl)) ?_
  intro p e R s m args below meth c n0 k0 C hX ls hl
  have hx := C.1
  have hb := C.2.1
  simp only [zg_I, zg_R, zg_nil] at hl
  have hl : lv_has ls 2 [(0, va_rf a0), (1, .int a1)] := hl
  refine rk_rf ?_
  unfold fn_J4_remove
  refine rk_of (fun _ _ _ _ _ k => lr_aload_n hx hb dJ4_remove_0 rfl (lv_at hl 0 rfl) (lv_iload_n hx hb dJ4_remove_1 rfl (lv_at hl 1 rfl) k)) ?_
  refine rk_callV hX (cl_V (rest := []) (av := [.int a1]) C (hc_J4 H) (ct_J4_checkElementIndex H a0 a1) (lw_V q862 q864 qs7 q107 q865) ⟨rfl, hd_J4_checkElementIndex⟩ ⟨(Nat.le_of_ble_eq_true rfl), (Nat.le_of_ble_eq_true rfl)⟩ rfl hl.1 rfl (zw_le zw_nil (Nat.le_of_ble_eq_true rfl)) dJ4_remove_2) (fun _ => ?_)
  refine rk_of (fun _ _ _ _ _ k => lr_aload_n hx hb dJ4_remove_5 rfl (lv_at hl 0 rfl) (lr_aload_n hx hb dJ4_remove_6 rfl (lv_at hl 0 rfl) (lv_iload_n hx hb dJ4_remove_7 rfl (lv_at hl 1 rfl) k))) ?_
  refine rk_callR hX (cl_V (rest := [va_rf a0]) (av := [.int a1]) C (hc_J4 H) (ct_J4_node H a0 a1) (lw_V q870 q712 q713 q107 q714) ⟨rfl, hd_J4_node⟩ ⟨(Nat.le_of_ble_eq_true rfl), (Nat.le_of_ble_eq_true rfl)⟩ rfl hl.1 rfl (zw_le (zw_R zw_nil) (Nat.le_of_ble_eq_true rfl)) dJ4_remove_8) (fun v8 => ?_)
  refine rk_callR hX (cl_V (rest := []) (av := [va_rf v8]) C (hc_J4 H) (ct_J4_unlink H a0 v8) (lw_V q1656 q1657 q1658 q107 q1659) ⟨rfl, hd_J4_unlink⟩ ⟨(Nat.le_of_ble_eq_true rfl), (Nat.le_of_ble_eq_true rfl)⟩ rfl hl.1 rfl (zw_le zw_nil (Nat.le_of_ble_eq_true rfl)) dJ4_remove_11) (fun v11 => ?_)
  exact rk_top (rf_aret C (Or.inl ⟨_, rfl⟩) dJ4_remove_14)
theorem hd_X2_drops : yX2_drops.cls ≠ "java/lang/invoke/MethodHandle" ∧ yX2_drops.cls ≠ "java/lang/invoke/VarHandle" ∧ (parseMethodDescriptor yX2_drops.desc).map (fun d => d.parameters.length) = some 1 := by decide +kernel
noncomputable def fn_X2_drops (K : zm_K) (a0 : zm_R) (a1 : Int32) : zm_M Int32 :=
  zm_bnd (zm_getR a0 19 2) fun v1 =>
  zm_bnd (zm_bnd (zm_cls v1) fun ci => if ci = 0 then fn_J2_remove K v1 a1 else if ci = 1 then fn_J4_remove K v1 a1 else zm_fl) fun v5 =>
  zm_bnd (zm_getR a0 19 2) fun v12 =>
  zm_bnd (zm_bnd (zm_cls v12) fun ci => if ci = 0 then fn_J2_size K v12 else if ci = 1 then fn_J4_size K v12 else zm_fl) fun v15 =>
  zm_ret v15
theorem ct_X2_drops {l : Launch} {Ω : zm_W} {K : zm_K} (H : zm_H Ω K) (a0 : zm_R) (a1 : Int32) : zm_Ct l Ω yX2_drops (ws_ yX2_drops cX2_drops 2 (Option.some Jvm.ClassFile.FieldType.int)) 10 254 [va_rf a0, .int a1] zm_tvI (fn_X2_drops K a0 a1) := by
  refine zm_ct H.1 (by decide +kernel) (zl_le (zl_R (zl_I zl_nil)) (Nat.le_of_ble_eq_true rfl)) ?_
  intro p e R s m args below meth c n0 k0 C hX ls hl
  have hx := C.1
  have hb := C.2.1
  simp only [zg_I, zg_R, zg_nil] at hl
  have hl : lv_has ls 2 [(0, va_rf a0), (1, .int a1)] := hl
  refine rk_rf ?_
  unfold fn_X2_drops
  refine rk_of (fun _ _ _ _ _ k => lr_aload_n hx hb dX2_drops_0 rfl (lv_at hl 0 rfl) k) ?_
  refine rk_get zm_rdR_eq C (hc_X2 H) (k := 2) (Nat.le_of_ble_eq_true rfl) in_X2 q199 (fun _ h => h) dX2_drops_1 (fun v1 => ?_)
  refine rk_of (fun _ _ _ _ _ k => lv_iload_n hx hb dX2_drops_4 rfl (lv_at hl 1 rfl) k) ?_
  refine rk_callR hX (cl_dsp (fun ci => cl_case (cl_F (n := 1) (rest := []) (av := [.int a1]) C (hc_J2 H) (ct_J2_remove H v1 a1) (lw_F q1639 q1642 q1644 q105 q1646) (zh_Fw H C (by decide) q1641 q1640 q1645 q1643 q309) (by decide +kernel) ⟨(Nat.le_of_ble_eq_true rfl), (Nat.le_of_ble_eq_true rfl)⟩ rfl hl.1 rfl (zw_le zw_nil (Nat.le_of_ble_eq_true rfl)) dX2_drops_5) (cl_case (cl_F (n := 1) (rest := []) (av := [.int a1]) C (hc_J4 H) (ct_J4_remove H v1 a1) (lw_F q1639 q1651 q1653 q107 q1655) (zh_Fw H C (by decide) q1641 q1640 q1654 q1652 q336) (by decide +kernel) ⟨(Nat.le_of_ble_eq_true rfl), (Nat.le_of_ble_eq_true rfl)⟩ rfl hl.1 rfl (zw_le zw_nil (Nat.le_of_ble_eq_true rfl)) dX2_drops_5) (cl_fl)))) (fun v5 => ?_)
  refine rk_of (fun _ _ _ _ _ k => lv_pop hx hb dX2_drops_10 (va_rf_cat _) (lr_aload_n hx hb dX2_drops_11 rfl (lv_at hl 0 rfl) k)) ?_
  refine rk_get zm_rdR_eq C (hc_X2 H) (k := 2) (Nat.le_of_ble_eq_true rfl) in_X2 q199 (fun _ h => h) dX2_drops_12 (fun v12 => ?_)
  refine rk_callI hX (cl_dsp (fun ci => cl_case (cl_F (n := 0) (rest := []) (av := []) C (hc_J2 H) (ct_J2_size H v12) (lw_F q1054 q1057 q752 q105 q753) (zh_Fw H C (by decide) q1056 q1055 q1059 q1058 q309) (by decide +kernel) ⟨(Nat.le_of_ble_eq_true rfl), (Nat.le_of_ble_eq_true rfl)⟩ rfl hl.1 rfl (zw_le zw_nil (Nat.le_of_ble_eq_true rfl)) dX2_drops_15) (cl_case (cl_F (n := 0) (rest := []) (av := []) C (hc_J4 H) (ct_J4_size H v12) (lw_F q1054 q1060 q755 q107 q756) (zh_Fw H C (by decide) q1056 q1055 q1062 q1061 q336) (by decide +kernel) ⟨(Nat.le_of_ble_eq_true rfl), (Nat.le_of_ble_eq_true rfl)⟩ rfl hl.1 rfl (zw_le zw_nil (Nat.le_of_ble_eq_true rfl)) dX2_drops_15) (cl_fl)))) (fun v15 => ?_)
  exact rk_top (rf_iret C rfl dX2_drops_20)
theorem hd_X1_lambda_drop_7 : yX1_lambda_drop_7.cls ≠ "java/lang/invoke/MethodHandle" ∧ yX1_lambda_drop_7.cls ≠ "java/lang/invoke/VarHandle" ∧ (parseMethodDescriptor yX1_lambda_drop_7.desc).map (fun d => d.parameters.length) = some 2 := by decide +kernel
noncomputable def fn_X1_lambda_drop_7 (K : zm_K) (a0 : Int32) (a1 : zm_R) : zm_M Int32 :=
  zm_bnd (zm_bnd (zm_is a1 19) fun _ => fn_X2_drops K a1 a0) fun v2 =>
  zm_ret v2
theorem ct_X1_lambda_drop_7 {l : Launch} {Ω : zm_W} {K : zm_K} (H : zm_H Ω K) (a0 : Int32) (a1 : zm_R) : zm_Ct l Ω yX1_lambda_drop_7 (ws_ yX1_lambda_drop_7 cX1_lambda_drop_7 2 (Option.some Jvm.ClassFile.FieldType.int)) 11 275 [.int a0, va_rf a1] zm_tvI (fn_X1_lambda_drop_7 K a0 a1) := by
  refine zm_ct H.1 (by decide +kernel) (zl_le (zl_I (zl_R zl_nil)) (Nat.le_of_ble_eq_true rfl)) ?_
  intro p e R s m args below meth c n0 k0 C hX ls hl
  have hx := C.1
  have hb := C.2.1
  simp only [zg_I, zg_R, zg_nil] at hl
  have hl : lv_has ls 2 [(0, .int a0), (1, va_rf a1)] := hl
  refine rk_rf ?_
  unfold fn_X1_lambda_drop_7
  refine rk_of (fun _ _ _ _ _ k => lr_aload_n hx hb dX1_lambda_drop_7_0 rfl (lv_at hl 1 rfl) (lv_iload_n hx hb dX1_lambda_drop_7_1 rfl (lv_at hl 0 rfl) k)) ?_
  refine rk_callI hX (cl_V (rest := []) (av := [.int a0]) C (hc_X2 H) (ct_X2_drops H a1 a0) (lw_V q1634 q1635 q1636 q102 q1637) ⟨rfl, hd_X2_drops⟩ ⟨(Nat.le_of_ble_eq_true rfl), (Nat.le_of_ble_eq_true rfl)⟩ rfl hl.1 rfl (zw_le zw_nil (Nat.le_of_ble_eq_true rfl)) dX1_lambda_drop_7_2) (fun v2 => ?_)
  exact rk_top (rf_iret C rfl dX1_lambda_drop_7_5)
theorem hd_J2_isEmpty : yJ2_isEmpty.cls ≠ "java/lang/invoke/MethodHandle" ∧ yJ2_isEmpty.cls ≠ "java/lang/invoke/VarHandle" ∧ (parseMethodDescriptor yJ2_isEmpty.desc).map (fun d => d.parameters.length) = some 0 := by decide +kernel
noncomputable def fn_J2_isEmpty (K : zm_K) (a0 : zm_R) : zm_M Int32 :=
  zm_bnd (zm_getI a0 0 2) fun v1 =>
  if v1 = 0 then
    zm_ret 1
  else
    zm_ret 0
theorem ct_J2_isEmpty {l : Launch} {Ω : zm_W} {K : zm_K} (H : zm_H Ω K) (a0 : zm_R) : zm_Ct l Ω yJ2_isEmpty (ws_ yJ2_isEmpty cJ2_isEmpty 1 (Option.some Jvm.ClassFile.FieldType.boolean)) 1 64 [va_rf a0] zm_tvI (fn_J2_isEmpty K a0) := by
  refine zm_ct H.1 (by decide +kernel) (zl_le (zl_R zl_nil) (Nat.le_of_ble_eq_true rfl)) ?_
  intro p e R s m args below meth c n0 k0 C hX ls hl
  have hx := C.1
  have hb := C.2.1
  simp only [zg_R, zg_nil] at hl
  have hl : lv_has ls 1 [(0, va_rf a0)] := hl
  refine rk_rf ?_
  unfold fn_J2_isEmpty
  refine rk_of (fun _ _ _ _ _ k => lr_aload_n hx hb dJ2_isEmpty_0 rfl (lv_at hl 0 rfl) k) ?_
  refine rk_get zm_rdI_eq C (hc_J2 H) (k := 2) (Nat.le_of_ble_eq_true rfl) in_J2 q181 (fun _ h => h) dJ2_isEmpty_1 (fun v1 => ?_)
  refine rk_ite (fun _ _ _ _ _ k1 k2 => lv_if_ne (tgt := 11) hx hb dJ2_isEmpty_4 (by decide) k2 k1) (fun c_4 => ?_) (fun c_4 => ?_)
  · refine rk_of (fun _ _ _ _ _ k => lv_iconst (v := 1) hx hb dJ2_isEmpty_7 rfl (lv_goto (tgt := 12) hx hb dJ2_isEmpty_8 (by decide) k)) ?_
    exact rk_top (rf_iret C rfl dJ2_isEmpty_12)
  · refine rk_of (fun _ _ _ _ _ k => lv_iconst (v := 0) hx hb dJ2_isEmpty_11 rfl k) ?_
    exact rk_top (rf_iret C rfl dJ2_isEmpty_12)
theorem hd_J0_isEmpty : yJ0_isEmpty.cls ≠ "java/lang/invoke/MethodHandle" ∧ yJ0_isEmpty.cls ≠ "java/lang/invoke/VarHandle" ∧ (parseMethodDescriptor yJ0_isEmpty.desc).map (fun d => d.parameters.length) = some 0 := by decide +kernel
noncomputable def fn_J0_isEmpty (K : zm_K) (a0 : zm_R) : zm_M Int32 :=
  zm_bnd (zm_bnd (zm_cls a0) fun ci => if ci = 0 then fn_J2_size K a0 else if ci = 1 then fn_J4_size K a0 else zm_fl) fun v1 =>
  if v1 = 0 then
    zm_ret 1
  else
    zm_ret 0
theorem ct_J0_isEmpty {l : Launch} {Ω : zm_W} {K : zm_K} (H : zm_H Ω K) (a0 : zm_R) : zm_Ct l Ω yJ0_isEmpty (ws_ yJ0_isEmpty cJ0_isEmpty 1 (Option.some Jvm.ClassFile.FieldType.boolean)) 2 84 [va_rf a0] zm_tvI (fn_J0_isEmpty K a0) := by
  refine zm_ct H.1 (by decide +kernel) (zl_le (zl_R zl_nil) (Nat.le_of_ble_eq_true rfl)) ?_
  intro p e R s m args below meth c n0 k0 C hX ls hl
  have hx := C.1
  have hb := C.2.1
  simp only [zg_R, zg_nil] at hl
  have hl : lv_has ls 1 [(0, va_rf a0)] := hl
  refine rk_rf ?_
  unfold fn_J0_isEmpty
  refine rk_of (fun _ _ _ _ _ k => lr_aload_n hx hb dJ0_isEmpty_0 rfl (lv_at hl 0 rfl) k) ?_
  refine rk_callI hX (cl_dsp (fun ci => cl_case (cl_U (n := 0) (rest := []) (av := []) C (hc_J2 H) (ct_J2_size H a0) (lw_meth q753) q105 q1716 (C.2.2.2.1 _ q3084) (Cond.declares_spec (zn_wD H C q750)) (C.2.2.2.1 _ q3085) q752 (by decide +kernel) ⟨(Nat.le_of_ble_eq_true rfl), (Nat.le_of_ble_eq_true rfl)⟩ rfl hl.1 rfl (zw_le zw_nil (Nat.le_of_ble_eq_true rfl)) dJ0_isEmpty_1) (cl_case (cl_U (n := 0) (rest := []) (av := []) C (hc_J4 H) (ct_J4_size H a0) (lw_meth q756) q107 q1716 (C.2.2.2.1 _ q3084) (Cond.declares_spec (zn_wD H C q750)) (C.2.2.2.1 _ q3086) q755 (by decide +kernel) ⟨(Nat.le_of_ble_eq_true rfl), (Nat.le_of_ble_eq_true rfl)⟩ rfl hl.1 rfl (zw_le zw_nil (Nat.le_of_ble_eq_true rfl)) dJ0_isEmpty_1) (cl_fl)))) (fun v1 => ?_)
  refine rk_ite (fun _ _ _ _ _ k1 k2 => lv_if_ne (tgt := 11) hx hb dJ0_isEmpty_4 (by decide) k2 k1) (fun c_4 => ?_) (fun c_4 => ?_)
  · refine rk_of (fun _ _ _ _ _ k => lv_iconst (v := 1) hx hb dJ0_isEmpty_7 rfl (lv_goto (tgt := 12) hx hb dJ0_isEmpty_8 (by decide) k)) ?_
    exact rk_top (rf_iret C rfl dJ0_isEmpty_12)
  · refine rk_of (fun _ _ _ _ _ k => lv_iconst (v := 0) hx hb dJ0_isEmpty_11 rfl k) ?_
    exact rk_top (rf_iret C rfl dJ0_isEmpty_12)
theorem hd_X8_endsAhead : yX8_endsAhead.cls ≠ "java/lang/invoke/MethodHandle" ∧ yX8_endsAhead.cls ≠ "java/lang/invoke/VarHandle" ∧ (parseMethodDescriptor yX8_endsAhead.desc).map (fun d => d.parameters.length) = some 1 := by decide +kernel
noncomputable def fn_X8_endsAhead (K : zm_K) (a0 : zm_R) (a1 : zm_R) : zm_M Int32 :=
  zm_bnd (zm_bnd (zm_is a0 24) fun _ => fn_X8_to K a0) fun v1 =>
  zm_bnd (zm_bnd (zm_is a1 24) fun _ => fn_X8_to K a1) fun v5 =>
  if v1 = v5 then
    zm_bnd (zm_bnd (zm_is a0 24) fun _ => fn_X8_from K a0) fun v31 =>
    zm_bnd (zm_bnd (zm_is a1 24) fun _ => fn_X8_from K a1) fun v35 =>
    if v35 < v31 then
      zm_ret 0
    else
      zm_ret 1
  else
    zm_bnd (zm_bnd (zm_is a0 24) fun _ => fn_X8_to K a0) fun v12 =>
    zm_bnd (zm_bnd (zm_is a1 24) fun _ => fn_X8_to K a1) fun v16 =>
    if v16 ≤ v12 then
      zm_ret 0
    else
      zm_ret 1
theorem ct_X8_endsAhead {l : Launch} {Ω : zm_W} {K : zm_K} (H : zm_H Ω K) (a0 : zm_R) (a1 : zm_R) : zm_Ct l Ω yX8_endsAhead (ws_ yX8_endsAhead cX8_endsAhead 2 (Option.some Jvm.ClassFile.FieldType.boolean)) 3 104 [va_rf a0, va_rf a1] zm_tvI (fn_X8_endsAhead K a0 a1) := by
  refine zm_ct H.1 (by decide +kernel) (zl_le (zl_R (zl_R zl_nil)) (Nat.le_of_ble_eq_true rfl)) ?_
  intro p e R s m args below meth c n0 k0 C hX ls hl
  have hx := C.1
  have hb := C.2.1
  simp only [zg_R, zg_nil] at hl
  have hl : lv_has ls 2 [(0, va_rf a0), (1, va_rf a1)] := hl
  refine rk_rf ?_
  unfold fn_X8_endsAhead
  refine rk_of (fun _ _ _ _ _ k => lr_aload_n hx hb dX8_endsAhead_0 rfl (lv_at hl 0 rfl) k) ?_
  refine rk_callI hX (cl_V (rest := []) (av := []) C (hc_X8 H) (ct_X8_to H a0) (lw_V q1751 q1040 q3080 q141 q1042) ⟨rfl, hd_X8_to⟩ ⟨(Nat.le_of_ble_eq_true rfl), (Nat.le_of_ble_eq_true rfl)⟩ rfl hl.1 rfl (zw_le zw_nil (Nat.le_of_ble_eq_true rfl)) dX8_endsAhead_1) (fun v1 => ?_)
  refine rk_of (fun _ _ _ _ _ k => lr_aload_n hx hb dX8_endsAhead_4 rfl (lv_at hl 1 rfl) k) ?_
  refine rk_callI hX (cl_V (rest := [.int v1]) (av := []) C (hc_X8 H) (ct_X8_to H a1) (lw_V q1751 q1040 q3080 q141 q1042) ⟨rfl, hd_X8_to⟩ ⟨(Nat.le_of_ble_eq_true rfl), (Nat.le_of_ble_eq_true rfl)⟩ rfl hl.1 rfl (zw_le (zw_I zw_nil) (Nat.le_of_ble_eq_true rfl)) dX8_endsAhead_5) (fun v5 => ?_)
  refine rk_ite (fun _ _ _ _ _ k1 k2 => lv_icmp_eq (tgt := 30) hx hb dX8_endsAhead_8 (by decide) k1 k2) (fun c_8 => ?_) (fun c_8 => ?_)
  · refine rk_of (fun _ _ _ _ _ k => lr_aload_n hx hb dX8_endsAhead_30 rfl (lv_at hl 0 rfl) k) ?_
    refine rk_callI hX (cl_V (rest := []) (av := []) C (hc_X8 H) (ct_X8_from H a0) (lw_V q1752 q1021 q3079 q141 q1023) ⟨rfl, hd_X8_from⟩ ⟨(Nat.le_of_ble_eq_true rfl), (Nat.le_of_ble_eq_true rfl)⟩ rfl hl.1 rfl (zw_le zw_nil (Nat.le_of_ble_eq_true rfl)) dX8_endsAhead_31) (fun v31 => ?_)
    refine rk_of (fun _ _ _ _ _ k => lr_aload_n hx hb dX8_endsAhead_34 rfl (lv_at hl 1 rfl) k) ?_
    refine rk_callI hX (cl_V (rest := [.int v31]) (av := []) C (hc_X8 H) (ct_X8_from H a1) (lw_V q1752 q1021 q3079 q141 q1023) ⟨rfl, hd_X8_from⟩ ⟨(Nat.le_of_ble_eq_true rfl), (Nat.le_of_ble_eq_true rfl)⟩ rfl hl.1 rfl (zw_le (zw_I zw_nil) (Nat.le_of_ble_eq_true rfl)) dX8_endsAhead_35) (fun v35 => ?_)
    refine rk_ite (fun _ _ _ _ _ k1 k2 => lv_icmp_gt (tgt := 45) hx hb dX8_endsAhead_38 (by decide) k1 k2) (fun c_38 => ?_) (fun c_38 => ?_)
    · refine rk_of (fun _ _ _ _ _ k => lv_iconst (v := 0) hx hb dX8_endsAhead_45 rfl k) ?_
      exact rk_top (rf_iret C rfl dX8_endsAhead_46)
    · refine rk_of (fun _ _ _ _ _ k => lv_iconst (v := 1) hx hb dX8_endsAhead_41 rfl (lv_goto (tgt := 46) hx hb dX8_endsAhead_42 (by decide) k)) ?_
      exact rk_top (rf_iret C rfl dX8_endsAhead_46)
  · refine rk_of (fun _ _ _ _ _ k => lr_aload_n hx hb dX8_endsAhead_11 rfl (lv_at hl 0 rfl) k) ?_
    refine rk_callI hX (cl_V (rest := []) (av := []) C (hc_X8 H) (ct_X8_to H a0) (lw_V q1751 q1040 q3080 q141 q1042) ⟨rfl, hd_X8_to⟩ ⟨(Nat.le_of_ble_eq_true rfl), (Nat.le_of_ble_eq_true rfl)⟩ rfl hl.1 rfl (zw_le zw_nil (Nat.le_of_ble_eq_true rfl)) dX8_endsAhead_12) (fun v12 => ?_)
    refine rk_of (fun _ _ _ _ _ k => lr_aload_n hx hb dX8_endsAhead_15 rfl (lv_at hl 1 rfl) k) ?_
    refine rk_callI hX (cl_V (rest := [.int v12]) (av := []) C (hc_X8 H) (ct_X8_to H a1) (lw_V q1751 q1040 q3080 q141 q1042) ⟨rfl, hd_X8_to⟩ ⟨(Nat.le_of_ble_eq_true rfl), (Nat.le_of_ble_eq_true rfl)⟩ rfl hl.1 rfl (zw_le (zw_I zw_nil) (Nat.le_of_ble_eq_true rfl)) dX8_endsAhead_16) (fun v16 => ?_)
    refine rk_ite (fun _ _ _ _ _ k1 k2 => lv_icmp_ge (tgt := 26) hx hb dX8_endsAhead_19 (by decide) k1 k2) (fun c_19 => ?_) (fun c_19 => ?_)
    · refine rk_of (fun _ _ _ _ _ k => lv_iconst (v := 0) hx hb dX8_endsAhead_26 rfl (lv_goto (tgt := 46) hx hb dX8_endsAhead_27 (by decide) k)) ?_
      exact rk_top (rf_iret C rfl dX8_endsAhead_46)
    · refine rk_of (fun _ _ _ _ _ k => lv_iconst (v := 1) hx hb dX8_endsAhead_22 rfl (lv_goto (tgt := 46) hx hb dX8_endsAhead_23 (by decide) k)) ?_
      exact rk_top (rf_iret C rfl dX8_endsAhead_46)
theorem hd_J4_linkBefore : yJ4_linkBefore.cls ≠ "java/lang/invoke/MethodHandle" ∧ yJ4_linkBefore.cls ≠ "java/lang/invoke/VarHandle" ∧ (parseMethodDescriptor yJ4_linkBefore.desc).map (fun d => d.parameters.length) = some 2 := by decide +kernel
noncomputable def fn_J4_linkBefore (K : zm_K) (a0 : zm_R) (a1 : zm_R) (a2 : zm_R) : zm_M Unit :=
  zm_bnd (zm_getR a2 7 2) fun v1 =>
  zm_bnd (zm_new 7 [.null, .null, .null]) fun v5 =>
  zm_bnd (fn_J18_init K (some v5) v1 a1 a2) fun _ =>
  zm_bnd (zm_putF K a2 7 2 (va_rf (some v5))) fun _ =>
  zm_bnd (α := Unit) (
      if v1 = none then
        zm_bnd (zm_putF K a0 1 2 (va_rf (some v5))) fun _ =>
        zm_ret ()
      else
        zm_bnd (zm_putF K v1 7 1 (va_rf (some v5))) fun _ =>
        zm_ret ()
    ) fun (_ : Unit) =>
  zm_bnd (zm_getI a0 1 1) fun v44 =>
  zm_bnd (zm_putF K a0 1 1 (.int (v44 + 1))) fun _ =>
  zm_bnd (zm_getI a0 1 0) fun v54 =>
  zm_bnd (zm_putF K a0 1 0 (.int (v54 + 1))) fun _ =>
  zm_ret ()
theorem ct_J4_linkBefore {l : Launch} {Ω : zm_W} {K : zm_K} (H : zm_H Ω K) (a0 : zm_R) (a1 : zm_R) (a2 : zm_R) : zm_Ct l Ω yJ4_linkBefore (ws_ yJ4_linkBefore cJ4_linkBefore 5 (Option.none : Option Jvm.ClassFile.FieldType)) 3 107 [va_rf a0, va_rf a1, va_rf a2] zm_tvV (fn_J4_linkBefore K a0 a1 a2) := by
  refine zm_ct H.1 (by decide +kernel) (zl_le (zl_R (zl_R (zl_R zl_nil))) (Nat.le_of_ble_eq_true rfl)) ?_
  intro p e R s m args below meth c n0 k0 C hX ls hl
  have hx := C.1
  have hb := C.2.1
  simp only [zg_R, zg_nil] at hl
  have hl : lv_has ls 5 [(0, va_rf a0), (1, va_rf a1), (2, va_rf a2)] := hl
  refine rk_rf ?_
  unfold fn_J4_linkBefore
  refine rk_of (fun _ _ _ _ _ k => lr_aload_n hx hb dJ4_linkBefore_0 rfl (lv_at hl 2 rfl) k) ?_
  refine rk_get zm_rdR_eq C (hc_J18 H) (k := 2) (Nat.le_of_ble_eq_true rfl) in_J18 q1254 (fun _ h => h) dJ4_linkBefore_1 (fun v1 => ?_)
  refine rk_ofs (fun _ _ _ _ _ k => lr_astore_n hx hb dJ4_linkBefore_4 rfl hl (Nat.le_of_ble_eq_true rfl) [0, 1, 2] rfl ⟨trivial, ⟨trivial, ⟨(by first | exact va_rf_cat _ | rfl), trivial⟩⟩⟩ k) (fun ls hl => ?_)
  refine rk_new C (hc_J18 H) in_J18 tyJ18_ok q1241 q1242 q125 (fs := [.null, .null, .null]) rfl (fun j hj => zdf_J18 j hj) dJ4_linkBefore_5 (fun v5 => ?_)
  refine rk_of (fun _ _ _ _ _ k => lv_dup hx hb dJ4_linkBefore_8 (va_rf_cat _) (lr_aload_n hx hb dJ4_linkBefore_9 rfl (lv_at hl 0 rfl) (lr_aload_n hx hb dJ4_linkBefore_10 rfl (lv_at hl 2 rfl) (lr_aload_n hx hb dJ4_linkBefore_11 rfl (lv_at hl 3 rfl) k)))) ?_
  refine rk_callV hX (cl_I (rest := [va_rf (some v5)]) C (ct_J18_init H (some v5) v1 a1 a2) (lw_meth q1245) q125 q1243 q1244 rfl hd_J18_init ⟨(Nat.le_of_ble_eq_true rfl), (Nat.le_of_ble_eq_true rfl)⟩ rfl hl.1 rfl (zw_le (zw_R zw_nil) (Nat.le_of_ble_eq_true rfl)) dJ4_linkBefore_12) (fun _ => ?_)
  refine rk_ofs (fun _ _ _ _ _ k => lr_astore hx hb dJ4_linkBefore_15 hl (Nat.le_of_ble_eq_true rfl) [0, 1, 3] rfl ⟨(by first | exact va_rf_cat _ | rfl), ⟨trivial, ⟨trivial, trivial⟩⟩⟩ k) (fun ls hl => ?_)
  refine rk_of (fun _ _ _ _ _ k => lr_aload_n hx hb dJ4_linkBefore_17 rfl (lv_at hl 3 rfl) (lr_aload hx hb dJ4_linkBefore_18 (lv_at hl 0 rfl) k)) ?_
  refine rk_put C H.2.2.1 (hc_J18 H) (k := 2) (Nat.le_of_ble_eq_true rfl) in_J18 (ty0 := tyJ18) tyJ18_ok nmJ18 q1254 (fun _ h => h) (Or.inl rfl) (zn_R rfl _) (zp_R rfl _) dJ4_linkBefore_20 ?_
  refine rk_of (fun _ _ _ _ _ k => lr_aload_n hx hb dJ4_linkBefore_23 rfl (lv_at hl 1 rfl) k) ?_
  refine rk_join (β := Unit) (fun (b42 : Unit) ls => lv_has ls 5 [(0, va_rf a0)]) (fun (b42 : Unit) ls => F0 m 42 ls []) (fun b42 ls hl => ?_) (fun hJ42 => ?_)
  · refine rk_of (fun _ _ _ _ _ k => lr_aload_n hx hb dJ4_linkBefore_42 rfl (lv_at hl 0 rfl) (lv_dup hx hb dJ4_linkBefore_43 (va_rf_cat _) k)) ?_
    refine rk_get zm_rdI_eq C (hc_J4 H) (k := 1) (Nat.le_of_ble_eq_true rfl) in_J4 q225 (fun _ h => h) dJ4_linkBefore_44 (fun v44 => ?_)
    refine rk_of (fun _ _ _ _ _ k => lv_iconst (v := 1) hx hb dJ4_linkBefore_47 rfl (lv_iadd hx hb dJ4_linkBefore_48 k)) ?_
    refine rk_put C H.2.2.1 (hc_J4 H) (k := 1) (Nat.le_of_ble_eq_true rfl) in_J4 (ty0 := tyJ4) tyJ4_ok nmJ4 q225 (fun _ h => h) (Or.inl rfl) rfl rfl dJ4_linkBefore_49 ?_
    refine rk_of (fun _ _ _ _ _ k => lr_aload_n hx hb dJ4_linkBefore_52 rfl (lv_at hl 0 rfl) (lv_dup hx hb dJ4_linkBefore_53 (va_rf_cat _) k)) ?_
    refine rk_get zm_rdI_eq C (hc_J4 H) (k := 0) (Nat.le_of_ble_eq_true rfl) in_J4 q188 (u_same (C.2.2.2.1 _ q184)) dJ4_linkBefore_54 (fun v54 => ?_)
    refine rk_of (fun _ _ _ _ _ k => lv_iconst (v := 1) hx hb dJ4_linkBefore_57 rfl (lv_iadd hx hb dJ4_linkBefore_58 k)) ?_
    refine rk_put C H.2.2.1 (hc_J4 H) (k := 0) (Nat.le_of_ble_eq_true rfl) in_J4 (ty0 := tyJ4) tyJ4_ok nmJ4 q188 (u_same (C.2.2.2.1 _ q184)) (Or.inl rfl) rfl rfl dJ4_linkBefore_59 ?_
    exact rk_top (rf_vret C dJ4_linkBefore_62)
  · refine rk_ite (fun _ _ _ _ _ k1 k2 => lr_ifnonnull (tgt := 36) hx hb dJ4_linkBefore_24 (by decide) k2 k1) (fun c_24 => ?_) (fun c_24 => ?_)
    · refine rk_of (fun _ _ _ _ _ k => lr_aload_n hx hb dJ4_linkBefore_27 rfl (lv_at hl 2 rfl) (lr_aload hx hb dJ4_linkBefore_28 (lv_at hl 0 rfl) k)) ?_
      refine rk_put C H.2.2.1 (hc_J4 H) (k := 2) (Nat.le_of_ble_eq_true rfl) in_J4 (ty0 := tyJ4) tyJ4_ok nmJ4 q227 (fun _ h => h) (Or.inl rfl) (zn_R rfl _) (zp_R rfl _) dJ4_linkBefore_30 ?_
      refine rk_of (fun _ _ _ _ _ k => lv_goto (tgt := 42) hx hb dJ4_linkBefore_33 (by decide) k) ?_
      exact hJ42 () ls (lv_sub hl [2] rfl)
    · refine rk_of (fun _ _ _ _ _ k => lr_aload_n hx hb dJ4_linkBefore_36 rfl (lv_at hl 1 rfl) (lr_aload hx hb dJ4_linkBefore_37 (lv_at hl 0 rfl) k)) ?_
      refine rk_put C H.2.2.1 (hc_J18 H) (k := 1) (Nat.le_of_ble_eq_true rfl) in_J18 (ty0 := tyJ18) tyJ18_ok nmJ18 q1252 (fun _ h => h) (Or.inl rfl) (zn_R rfl _) (zp_R rfl _) dJ4_linkBefore_39 ?_
      exact hJ42 () ls (lv_sub hl [2] rfl)
theorem hd_J4_add_2 : yJ4_add_2.cls ≠ "java/lang/invoke/MethodHandle" ∧ yJ4_add_2.cls ≠ "java/lang/invoke/VarHandle" ∧ (parseMethodDescriptor yJ4_add_2.desc).map (fun d => d.parameters.length) = some 2 := by decide +kernel
noncomputable def fn_J4_add_2 (K : zm_K) (a0 : zm_R) (a1 : Int32) (a2 : zm_R) : zm_M Unit :=
  zm_bnd (zm_bnd (zm_is a0 1) fun _ => fn_J4_checkPositionIndex K a0 a1) fun _ =>
  zm_bnd (zm_getI a0 1 1) fun v7 =>
  if a1 = v7 then
    zm_bnd (zm_bnd (zm_is a0 1) fun _ => fn_J4_linkLast K a0 a2) fun _ =>
    zm_ret ()
  else
    zm_bnd (zm_bnd (zm_is a0 1) fun _ => fn_J4_node K a0 a1) fun v25 =>
    zm_bnd (zm_bnd (zm_is a0 1) fun _ => fn_J4_linkBefore K a0 a2 v25) fun _ =>
    zm_ret ()
theorem ct_J4_add_2 {l : Launch} {Ω : zm_W} {K : zm_K} (H : zm_H Ω K) (a0 : zm_R) (a1 : Int32) (a2 : zm_R) : zm_Ct l Ω yJ4_add_2 (ws_ yJ4_add_2 cJ4_add_2 3 (Option.none : Option Jvm.ClassFile.FieldType)) 9 233 [va_rf a0, .int a1, va_rf a2] zm_tvV (fn_J4_add_2 K a0 a1 a2) := by
  refine zm_ct H.1 (by decide +kernel) (zl_le (zl_R (zl_I (zl_R zl_nil))) (Nat.le_of_ble_eq_true rfl)) ?_
  intro p e R s m args below meth c n0 k0 C hX ls hl
  have hx := C.1
  have hb := C.2.1
  simp only [zg_I, zg_R, zg_nil] at hl
  have hl : lv_has ls 3 [(0, va_rf a0), (1, .int a1), (2, va_rf a2)] := hl
  refine rk_rf ?_
  unfold fn_J4_add_2
  refine rk_of (fun _ _ _ _ _ k => lr_aload_n hx hb dJ4_add_2_0 rfl (lv_at hl 0 rfl) (lv_iload_n hx hb dJ4_add_2_1 rfl (lv_at hl 1 rfl) k)) ?_
  refine rk_callV hX (cl_V (rest := []) (av := [.int a1]) C (hc_J4 H) (ct_J4_checkPositionIndex H a0 a1) (lw_V q684 q686 qs3 q107 q687) ⟨rfl, hd_J4_checkPositionIndex⟩ ⟨(Nat.le_of_ble_eq_true rfl), (Nat.le_of_ble_eq_true rfl)⟩ rfl hl.1 rfl (zw_le zw_nil (Nat.le_of_ble_eq_true rfl)) dJ4_add_2_2) (fun _ => ?_)
  refine rk_of (fun _ _ _ _ _ k => lv_iload_n hx hb dJ4_add_2_5 rfl (lv_at hl 1 rfl) (lr_aload_n hx hb dJ4_add_2_6 rfl (lv_at hl 0 rfl) k)) ?_
  refine rk_get zm_rdI_eq C (hc_J4 H) (k := 1) (Nat.le_of_ble_eq_true rfl) in_J4 q225 (fun _ h => h) dJ4_add_2_7 (fun v7 => ?_)
  refine rk_ite (fun _ _ _ _ _ k1 k2 => lv_icmp_ne (tgt := 21) hx hb dJ4_add_2_10 (by decide) k2 k1) (fun c_10 => ?_) (fun c_10 => ?_)
  · refine rk_of (fun _ _ _ _ _ k => lr_aload_n hx hb dJ4_add_2_13 rfl (lv_at hl 0 rfl) (lr_aload_n hx hb dJ4_add_2_14 rfl (lv_at hl 2 rfl) k)) ?_
    refine rk_callV hX (cl_V (rest := []) (av := [va_rf a2]) C (hc_J4 H) (ct_J4_linkLast H a0 a2) (lw_V q1237 q1238 q1239 q107 q1240) ⟨rfl, hd_J4_linkLast⟩ ⟨(Nat.le_of_ble_eq_true rfl), (Nat.le_of_ble_eq_true rfl)⟩ rfl hl.1 rfl (zw_le zw_nil (Nat.le_of_ble_eq_true rfl)) dJ4_add_2_15) (fun _ => ?_)
    refine rk_of (fun _ _ _ _ _ k => lv_goto (tgt := 31) hx hb dJ4_add_2_18 (by decide) k) ?_
    exact rk_top (rf_vret C dJ4_add_2_31)
  · refine rk_of (fun _ _ _ _ _ k => lr_aload_n hx hb dJ4_add_2_21 rfl (lv_at hl 0 rfl) (lr_aload_n hx hb dJ4_add_2_22 rfl (lv_at hl 2 rfl) (lr_aload_n hx hb dJ4_add_2_23 rfl (lv_at hl 0 rfl) (lv_iload_n hx hb dJ4_add_2_24 rfl (lv_at hl 1 rfl) k)))) ?_
    refine rk_callR hX (cl_V (rest := [va_rf a2, va_rf a0]) (av := [.int a1]) C (hc_J4 H) (ct_J4_node H a0 a1) (lw_V q870 q712 q713 q107 q714) ⟨rfl, hd_J4_node⟩ ⟨(Nat.le_of_ble_eq_true rfl), (Nat.le_of_ble_eq_true rfl)⟩ rfl hl.1 rfl (zw_le (zw_R (zw_R zw_nil)) (Nat.le_of_ble_eq_true rfl)) dJ4_add_2_25) (fun v25 => ?_)
    refine rk_callV hX (cl_V (rest := []) (av := [va_rf a2, va_rf v25]) C (hc_J4 H) (ct_J4_linkBefore H a0 a2 v25) (lw_V q1757 q1758 q1759 q107 q1760) ⟨rfl, hd_J4_linkBefore⟩ ⟨(Nat.le_of_ble_eq_true rfl), (Nat.le_of_ble_eq_true rfl)⟩ rfl hl.1 rfl (zw_le zw_nil (Nat.le_of_ble_eq_true rfl)) dJ4_add_2_28) (fun _ => ?_)
    exact rk_top (rf_vret C dJ4_add_2_31)
theorem hd_X2_byEnds : yX2_byEnds.cls ≠ "java/lang/invoke/MethodHandle" ∧ yX2_byEnds.cls ≠ "java/lang/invoke/VarHandle" ∧ (parseMethodDescriptor yX2_byEnds.desc).map (fun d => d.parameters.length) = some 0 := by decide +kernel
noncomputable def fn_X2_byEnds_46 (K : zm_K) (p1 : zm_R) (p2 : zm_R) (p3 : zm_R) (p5 : zm_R) : Nat → Int32 → zm_M (Int32)
  | 0, _ => zm_fl
  | n + 1, x4 =>
    zm_bnd (zm_bnd (zm_cls p5) fun ci => if ci = 26 then fn_X10_hasNext K p5 else if ci = 9 then fn_J22_hasNext K p5 else if ci = 11 then fn_J25_hasNext K p5 else zm_fl) fun v48 =>
    if v48 = 0 then
      zm_ret x4
    else
      zm_bnd (zm_bnd (zm_cls p5) fun ci => if ci = 26 then fn_X10_next K p5 else if ci = 9 then fn_J22_next K p5 else if ci = 11 then fn_J25_next K p5 else zm_fl) fun v58 =>
      zm_bnd (zm_chk [24] [] v58) fun _ =>
      zm_bnd (zm_bnd (zm_is v58 24) fun _ => fn_X8_endsAhead K v58 p3) fun v73 =>
      zm_bnd (α := Int32) (
          if v73 = 0 then
            zm_ret 0
          else
            zm_ret 1
        ) fun b84 =>
      fn_X2_byEnds_46 K p1 p2 p3 p5 n (x4 + b84)
noncomputable def fn_X2_byEnds_18 (K : zm_K) (p1 : zm_R) (p2 : zm_R) : Nat → zm_M (Unit)
  | 0 => zm_fl
  | n + 1 =>
    zm_bnd (zm_bnd (zm_cls p2) fun ci => if ci = 26 then fn_X10_hasNext K p2 else if ci = 9 then fn_J22_hasNext K p2 else if ci = 11 then fn_J25_hasNext K p2 else zm_fl) fun v19 =>
    if v19 = 0 then
      zm_ret ()
    else
      zm_bnd (zm_bnd (zm_cls p2) fun ci => if ci = 26 then fn_X10_next K p2 else if ci = 9 then fn_J22_next K p2 else if ci = 11 then fn_J25_next K p2 else zm_fl) fun v28 =>
      zm_bnd (zm_chk [24] [] v28) fun _ =>
      zm_bnd (zm_bnd (zm_is p1 1) fun _ => fn_J3_iterator K p1) fun v41 =>
      zm_bnd (α := Int32) (fn_X2_byEnds_46 K p1 p2 v28 v41 zm_N 0) fun b90 =>
      zm_bnd (zm_bnd (zm_is p1 1) fun _ => fn_J4_add_2 K p1 b90 v28) fun _ =>
      fn_X2_byEnds_18 K p1 p2 n
noncomputable def fn_X2_byEnds (K : zm_K) (a0 : zm_R) : zm_M zm_R :=
  zm_bnd (zm_new 1 [.int 0, .int 0, .null, .null]) fun v0 =>
  zm_bnd (fn_J4_init K (some v0)) fun _ =>
  zm_bnd (zm_getR a0 19 2) fun v9 =>
  zm_bnd (zm_bnd (zm_cls v9) fun ci => if ci = 0 then fn_J2_iterator K v9 else if ci = 1 then fn_J3_iterator K v9 else zm_fl) fun v12 =>
  zm_bnd (α := Unit) (fn_X2_byEnds_18 K (some v0) v12 zm_N) fun (_ : Unit) =>
  zm_ret (some v0)
theorem rf_X2_byEnds_46 (H : zm_H Ω K) (C : zm_C p l R s m args meth c Ω lw_all cX2_byEnds yX2_byEnds.cls yX2_byEnds.name 7 17 415 (Option.some (Jvm.ClassFile.FieldType.object "java/util/List"))) (hX : zm_XO p l e R s m args below meth c Ω n0 k0 (zm_QFs below args s Ω n0 k0 zm_tvR)) (p1 : zm_R) (p2 : zm_R) (p3 : zm_R) (p5 : zm_R) : ∀ (n : Nat) (x4 : Int32) (J : (Int32) → zm_M zm_R) (ls : Array Slot), lv_has ls 7 [(1, va_rf p1), (2, va_rf p2), (3, va_rf p3), (5, va_rf p5), (4, .int x4)] → (∀ (b : Int32) (ls : Array Slot), lv_has ls 7 [(1, va_rf p1), (2, va_rf p2), (3, va_rf p3), (4, .int b)] → zm_RK p l e R s m args below meth c Ω n0 k0 (zm_QFs below args s Ω n0 k0 zm_tvR) (zm_ret b) J (F0 m 90 ls [])) → zm_RK p l e R s m args below meth c Ω n0 k0 (zm_QFs below args s Ω n0 k0 zm_tvR) (fn_X2_byEnds_46 K p1 p2 p3 p5 n x4) J (F0 m 46 ls []) := by
  have hx := C.1
  have hb := C.2.1
  intro n
  induction n with
  | zero => intro x4 J ls hl hJ; exact rk_fl
  | succ n ih =>
    intro x4 J ls hl hJ
    unfold fn_X2_byEnds_46
    refine rk_of (fun _ _ _ _ _ k => lr_aload hx hb dX2_byEnds_46 (lv_at hl 3 rfl) k) ?_
    refine rk_callI hX (cl_dsp (fun ci => cl_case (cl_F (n := 0) (rest := []) (av := []) C (hc_X10 H) (ct_X10_hasNext H p5) (lw_F q733 q737 q739 q143 q741) (zh_Fw H C (by decide) q735 q734 q740 q738 q736) (by decide +kernel) ⟨(Nat.le_of_ble_eq_true rfl), (Nat.le_of_ble_eq_true rfl)⟩ rfl hl.1 rfl (zw_le zw_nil (Nat.le_of_ble_eq_true rfl)) dX2_byEnds_48) (cl_case (cl_F (n := 0) (rest := []) (av := []) C (hc_J22 H) (ct_J22_hasNext H p5) (lw_F q733 q758 q760 q129 q762) (zh_Fw H C (by decide) q735 q734 q761 q759 q757) (by decide +kernel) ⟨(Nat.le_of_ble_eq_true rfl), (Nat.le_of_ble_eq_true rfl)⟩ rfl hl.1 rfl (zw_le zw_nil (Nat.le_of_ble_eq_true rfl)) dX2_byEnds_48) (cl_case (cl_F (n := 0) (rest := []) (av := []) C (hc_J25 H) (ct_J25_hasNext H p5) (lw_F q733 q767 q769 q133 q771) (zh_Fw H C (by decide) q735 q734 q770 q768 q766) (by decide +kernel) ⟨(Nat.le_of_ble_eq_true rfl), (Nat.le_of_ble_eq_true rfl)⟩ rfl hl.1 rfl (zw_le zw_nil (Nat.le_of_ble_eq_true rfl)) dX2_byEnds_48) (cl_fl))))) (fun v48 => ?_)
    refine rk_ite (fun _ _ _ _ _ k1 k2 => lv_if_eq (tgt := 90) hx hb dX2_byEnds_53 (by decide) k1 k2) (fun c_53 => ?_) (fun c_53 => ?_)
    · exact hJ x4 ls (lv_sub hl [0, 1, 2, 4] rfl)
    · refine rk_of (fun _ _ _ _ _ k => lr_aload hx hb dX2_byEnds_56 (lv_at hl 3 rfl) k) ?_
      refine rk_callR hX (cl_dsp (fun ci => cl_case (cl_F (n := 0) (rest := []) (av := []) C (hc_X10 H) (ct_X10_next H p5) (lw_F q773 q776 q778 q143 q780) (zh_Fw H C (by decide) q775 q774 q779 q777 q736) (by decide +kernel) ⟨(Nat.le_of_ble_eq_true rfl), (Nat.le_of_ble_eq_true rfl)⟩ rfl hl.1 rfl (zw_le zw_nil (Nat.le_of_ble_eq_true rfl)) dX2_byEnds_58) (cl_case (cl_F (n := 0) (rest := []) (av := []) C (hc_J22 H) (ct_J22_next H p5) (lw_F q773 q966 q968 q129 q970) (zh_Fw H C (by decide) q775 q774 q969 q967 q757) (by decide +kernel) ⟨(Nat.le_of_ble_eq_true rfl), (Nat.le_of_ble_eq_true rfl)⟩ rfl hl.1 rfl (zw_le zw_nil (Nat.le_of_ble_eq_true rfl)) dX2_byEnds_58) (cl_case (cl_F (n := 0) (rest := []) (av := []) C (hc_J25 H) (ct_J25_next H p5) (lw_F q773 q981 q983 q133 q985) (zh_Fw H C (by decide) q775 q774 q984 q982 q766) (by decide +kernel) ⟨(Nat.le_of_ble_eq_true rfl), (Nat.le_of_ble_eq_true rfl)⟩ rfl hl.1 rfl (zw_le zw_nil (Nat.le_of_ble_eq_true rfl)) dX2_byEnds_58) (cl_fl))))) (fun v58 => ?_)
      refine rk_chk C q993 (zc_cons (zc_s (hc_X8 H)) zc_nil) zp_nil dX2_byEnds_63 ?_
      refine rk_ofs (fun _ _ _ _ _ k => lr_astore hx hb dX2_byEnds_66 hl (Nat.le_of_ble_eq_true rfl) [0, 1, 2, 3, 4] rfl ⟨trivial, ⟨trivial, ⟨trivial, ⟨(by first | exact va_rf_cat _ | rfl), ⟨trivial, trivial⟩⟩⟩⟩⟩ k) (fun ls hl => ?_)
      refine rk_of (fun _ _ _ _ _ k => lv_iload hx hb dX2_byEnds_68 (lv_at hl 5 rfl) (lr_aload hx hb dX2_byEnds_70 (lv_at hl 0 rfl) (lr_aload_n hx hb dX2_byEnds_72 rfl (lv_at hl 3 rfl) k))) ?_
      refine rk_callI hX (cl_V (rest := [.int x4]) (av := [va_rf p3]) C (hc_X8 H) (ct_X8_endsAhead H v58 p3) (lw_V q1747 q1748 q1749 q141 q1750) ⟨rfl, hd_X8_endsAhead⟩ ⟨(Nat.le_of_ble_eq_true rfl), (Nat.le_of_ble_eq_true rfl)⟩ rfl hl.1 rfl (zw_le (zw_I zw_nil) (Nat.le_of_ble_eq_true rfl)) dX2_byEnds_73) (fun v73 => ?_)
      refine rk_join (β := Int32) (fun (b84 : Int32) ls => lv_has ls 7 [(1, va_rf p1), (2, va_rf p2), (3, va_rf p3), (5, va_rf p5)]) (fun (b84 : Int32) ls => F0 m 84 ls [.int b84, .int x4]) (fun b84 ls hl => ?_) (fun hJ84 => ?_)
      · refine rk_ofs (fun _ _ _ _ _ k => lv_iadd hx hb dX2_byEnds_84 (lr_istore hx hb dX2_byEnds_85 hl (Nat.le_of_ble_eq_true rfl) [0, 1, 2, 3] rfl ⟨trivial, ⟨trivial, ⟨(by first | exact va_rf_cat _ | rfl), ⟨trivial, trivial⟩⟩⟩⟩ k)) (fun ls hl => ?_)
        refine rk_of (fun _ _ _ _ _ k => lv_goto (tgt := 46) hx hb dX2_byEnds_87 (by decide) k) ?_
        exact ih (x4 + b84) J ls (lv_sub hl [1, 2, 3, 4, 0] rfl) hJ
      · refine rk_ite (fun _ _ _ _ _ k1 k2 => lv_if_eq (tgt := 83) hx hb dX2_byEnds_76 (by decide) k1 k2) (fun c_76 => ?_) (fun c_76 => ?_)
        · refine rk_of (fun _ _ _ _ _ k => lv_iconst (v := 0) hx hb dX2_byEnds_83 rfl k) ?_
          exact hJ84 0 ls (lv_sub hl [1, 2, 3, 4] rfl)
        · refine rk_of (fun _ _ _ _ _ k => lv_iconst (v := 1) hx hb dX2_byEnds_79 rfl (lv_goto (tgt := 84) hx hb dX2_byEnds_80 (by decide) k)) ?_
          exact hJ84 1 ls (lv_sub hl [1, 2, 3, 4] rfl)
theorem rf_X2_byEnds_18 (H : zm_H Ω K) (C : zm_C p l R s m args meth c Ω lw_all cX2_byEnds yX2_byEnds.cls yX2_byEnds.name 7 17 415 (Option.some (Jvm.ClassFile.FieldType.object "java/util/List"))) (hX : zm_XO p l e R s m args below meth c Ω n0 k0 (zm_QFs below args s Ω n0 k0 zm_tvR)) (p1 : zm_R) (p2 : zm_R) : ∀ (n : Nat) (J : (Unit) → zm_M zm_R) (ls : Array Slot), lv_has ls 7 [(1, va_rf p1), (2, va_rf p2)] → (∀ (b : Unit) (ls : Array Slot), lv_has ls 7 [(1, va_rf p1)] → zm_RK p l e R s m args below meth c Ω n0 k0 (zm_QFs below args s Ω n0 k0 zm_tvR) (zm_ret b) J (F0 m 100 ls [])) → zm_RK p l e R s m args below meth c Ω n0 k0 (zm_QFs below args s Ω n0 k0 zm_tvR) (fn_X2_byEnds_18 K p1 p2 n) J (F0 m 18 ls []) := by
  have hx := C.1
  have hb := C.2.1
  intro n
  induction n with
  | zero => intro J ls hl hJ; exact rk_fl
  | succ n ih =>
    intro J ls hl hJ
    unfold fn_X2_byEnds_18
    refine rk_of (fun _ _ _ _ _ k => lr_aload_n hx hb dX2_byEnds_18 rfl (lv_at hl 1 rfl) k) ?_
    refine rk_callI hX (cl_dsp (fun ci => cl_case (cl_F (n := 0) (rest := []) (av := []) C (hc_X10 H) (ct_X10_hasNext H p2) (lw_F q733 q737 q739 q143 q741) (zh_Fw H C (by decide) q735 q734 q740 q738 q736) (by decide +kernel) ⟨(Nat.le_of_ble_eq_true rfl), (Nat.le_of_ble_eq_true rfl)⟩ rfl hl.1 rfl (zw_le zw_nil (Nat.le_of_ble_eq_true rfl)) dX2_byEnds_19) (cl_case (cl_F (n := 0) (rest := []) (av := []) C (hc_J22 H) (ct_J22_hasNext H p2) (lw_F q733 q758 q760 q129 q762) (zh_Fw H C (by decide) q735 q734 q761 q759 q757) (by decide +kernel) ⟨(Nat.le_of_ble_eq_true rfl), (Nat.le_of_ble_eq_true rfl)⟩ rfl hl.1 rfl (zw_le zw_nil (Nat.le_of_ble_eq_true rfl)) dX2_byEnds_19) (cl_case (cl_F (n := 0) (rest := []) (av := []) C (hc_J25 H) (ct_J25_hasNext H p2) (lw_F q733 q767 q769 q133 q771) (zh_Fw H C (by decide) q735 q734 q770 q768 q766) (by decide +kernel) ⟨(Nat.le_of_ble_eq_true rfl), (Nat.le_of_ble_eq_true rfl)⟩ rfl hl.1 rfl (zw_le zw_nil (Nat.le_of_ble_eq_true rfl)) dX2_byEnds_19) (cl_fl))))) (fun v19 => ?_)
    refine rk_ite (fun _ _ _ _ _ k1 k2 => lv_if_eq (tgt := 100) hx hb dX2_byEnds_24 (by decide) k1 k2) (fun c_24 => ?_) (fun c_24 => ?_)
    · exact hJ () ls (lv_sub hl [0] rfl)
    · refine rk_of (fun _ _ _ _ _ k => lr_aload_n hx hb dX2_byEnds_27 rfl (lv_at hl 1 rfl) k) ?_
      refine rk_callR hX (cl_dsp (fun ci => cl_case (cl_F (n := 0) (rest := []) (av := []) C (hc_X10 H) (ct_X10_next H p2) (lw_F q773 q776 q778 q143 q780) (zh_Fw H C (by decide) q775 q774 q779 q777 q736) (by decide +kernel) ⟨(Nat.le_of_ble_eq_true rfl), (Nat.le_of_ble_eq_true rfl)⟩ rfl hl.1 rfl (zw_le zw_nil (Nat.le_of_ble_eq_true rfl)) dX2_byEnds_28) (cl_case (cl_F (n := 0) (rest := []) (av := []) C (hc_J22 H) (ct_J22_next H p2) (lw_F q773 q966 q968 q129 q970) (zh_Fw H C (by decide) q775 q774 q969 q967 q757) (by decide +kernel) ⟨(Nat.le_of_ble_eq_true rfl), (Nat.le_of_ble_eq_true rfl)⟩ rfl hl.1 rfl (zw_le zw_nil (Nat.le_of_ble_eq_true rfl)) dX2_byEnds_28) (cl_case (cl_F (n := 0) (rest := []) (av := []) C (hc_J25 H) (ct_J25_next H p2) (lw_F q773 q981 q983 q133 q985) (zh_Fw H C (by decide) q775 q774 q984 q982 q766) (by decide +kernel) ⟨(Nat.le_of_ble_eq_true rfl), (Nat.le_of_ble_eq_true rfl)⟩ rfl hl.1 rfl (zw_le zw_nil (Nat.le_of_ble_eq_true rfl)) dX2_byEnds_28) (cl_fl))))) (fun v28 => ?_)
      refine rk_chk C q993 (zc_cons (zc_s (hc_X8 H)) zc_nil) zp_nil dX2_byEnds_33 ?_
      refine rk_ofs (fun _ _ _ _ _ k => lr_astore_n hx hb dX2_byEnds_36 rfl hl (Nat.le_of_ble_eq_true rfl) [0, 1] rfl ⟨trivial, ⟨(by first | exact va_rf_cat _ | rfl), trivial⟩⟩ k) (fun ls hl => ?_)
      refine rk_ofs (fun _ _ _ _ _ k => lv_iconst (v := 0) hx hb dX2_byEnds_37 rfl (lr_istore hx hb dX2_byEnds_38 hl (Nat.le_of_ble_eq_true rfl) [0, 1, 2] rfl ⟨(by first | exact va_rf_cat _ | rfl), ⟨trivial, ⟨trivial, trivial⟩⟩⟩ k)) (fun ls hl => ?_)
      refine rk_of (fun _ _ _ _ _ k => lr_aload_n hx hb dX2_byEnds_40 rfl (lv_at hl 2 rfl) k) ?_
      refine rk_callR hX (cl_U (n := 0) (rest := []) (av := []) C (hc_J4 H) (ct_J3_iterator H p1) (lw_meth q341) q106 q1743 (C.2.2.2.1 _ q1744) (va_Decl.of (C.2.2.2.1 _ q339) (C.2.2.2.1 _ q341)) (C.2.2.2.1 _ q1746) q339 (by decide +kernel) ⟨(Nat.le_of_ble_eq_true rfl), (Nat.le_of_ble_eq_true rfl)⟩ rfl hl.1 rfl (zw_le zw_nil (Nat.le_of_ble_eq_true rfl)) dX2_byEnds_41) (fun v41 => ?_)
      refine rk_ofs (fun _ _ _ _ _ k => lr_astore hx hb dX2_byEnds_44 hl (Nat.le_of_ble_eq_true rfl) [0, 1, 2, 3] rfl ⟨rfl, ⟨trivial, ⟨trivial, ⟨trivial, trivial⟩⟩⟩⟩ k) (fun ls hl => ?_)
      refine rk_join (β := Int32) (fun (b90 : Int32) ls => lv_has ls 7 [(1, va_rf p1), (2, va_rf p2), (3, va_rf v28), (4, .int b90)]) (fun (b90 : Int32) ls => F0 m 90 ls []) (fun b90 ls hl => ?_) (fun hJ90 => ?_)
      · refine rk_of (fun _ _ _ _ _ k => lr_aload_n hx hb dX2_byEnds_90 rfl (lv_at hl 0 rfl) (lv_iload hx hb dX2_byEnds_91 (lv_at hl 3 rfl) (lr_aload_n hx hb dX2_byEnds_93 rfl (lv_at hl 2 rfl) k))) ?_
        refine rk_callV hX (cl_V (rest := []) (av := [.int b90, va_rf v28]) C (hc_J4 H) (ct_J4_add_2 H p1 b90 v28) (lw_V q1753 q1754 q1755 q107 q1756) ⟨rfl, hd_J4_add_2⟩ ⟨(Nat.le_of_ble_eq_true rfl), (Nat.le_of_ble_eq_true rfl)⟩ rfl hl.1 rfl (zw_le zw_nil (Nat.le_of_ble_eq_true rfl)) dX2_byEnds_94) (fun _ => ?_)
        refine rk_of (fun _ _ _ _ _ k => lv_goto (tgt := 18) hx hb dX2_byEnds_97 (by decide) k) ?_
        exact ih J ls (lv_sub hl [0, 1] rfl) hJ
      · exact rf_X2_byEnds_46 H C hX p1 p2 v28 v41 zm_N 0 _ ls (lv_sub hl [3, 4, 2, 0, 1] rfl) hJ90
theorem ct_X2_byEnds {l : Launch} {Ω : zm_W} {K : zm_K} (H : zm_H Ω K) (a0 : zm_R) : zm_Ct l Ω yX2_byEnds (ws_ yX2_byEnds cX2_byEnds 7 (Option.some (Jvm.ClassFile.FieldType.object "java/util/List"))) 17 415 [va_rf a0] zm_tvR (fn_X2_byEnds K a0) := by
  refine zm_ct H.1 (by decide +kernel) (zl_le (zl_R zl_nil) (Nat.le_of_ble_eq_true rfl)) ?_
  intro p e R s m args below meth c n0 k0 C hX ls hl
  have hx := C.1
  have hb := C.2.1
  simp only [zg_R, zg_nil] at hl
  have hl : lv_has ls 7 [(0, va_rf a0)] := hl
  refine rk_rf ?_
  unfold fn_X2_byEnds
  refine rk_new C (hc_J4 H) in_J4 tyJ4_ok q1741 q217 q107 (fs := [.int 0, .int 0, .null, .null]) rfl (fun j hj => zdf_J4 j hj) dX2_byEnds_0 (fun v0 => ?_)
  refine rk_of (fun _ _ _ _ _ k => lv_dup hx hb dX2_byEnds_3 (va_rf_cat _) k) ?_
  refine rk_callV hX (cl_I (rest := [va_rf (some v0)]) C (ct_J4_init H (some v0)) (lw_meth q220) q107 q1742 q219 rfl hd_J4_init ⟨(Nat.le_of_ble_eq_true rfl), (Nat.le_of_ble_eq_true rfl)⟩ rfl hl.1 rfl (zw_le (zw_R zw_nil) (Nat.le_of_ble_eq_true rfl)) dX2_byEnds_4) (fun _ => ?_)
  refine rk_ofs (fun _ _ _ _ _ k => lr_astore_n hx hb dX2_byEnds_7 rfl hl (Nat.le_of_ble_eq_true rfl) [0] rfl ⟨(by first | exact va_rf_cat _ | rfl), trivial⟩ k) (fun ls hl => ?_)
  refine rk_of (fun _ _ _ _ _ k => lr_aload_n hx hb dX2_byEnds_8 rfl (lv_at hl 1 rfl) k) ?_
  refine rk_get zm_rdR_eq C (hc_X2 H) (k := 2) (Nat.le_of_ble_eq_true rfl) in_X2 q199 (fun _ h => h) dX2_byEnds_9 (fun v9 => ?_)
  refine rk_callR hX (cl_dsp (fun ci => cl_case (cl_F (n := 0) (rest := []) (av := []) C (hc_J2 H) (ct_J2_iterator H v9) (lw_F q306 q310 q312 q105 q314) (zh_Fw H C (by decide) q308 q307 q313 q311 q309) (by decide +kernel) ⟨(Nat.le_of_ble_eq_true rfl), (Nat.le_of_ble_eq_true rfl)⟩ rfl hl.1 rfl (zw_le zw_nil (Nat.le_of_ble_eq_true rfl)) dX2_byEnds_12) (cl_case (cl_F (n := 0) (rest := []) (av := []) C (hc_J4 H) (ct_J3_iterator H v9) (lw_F q306 q337 q339 q106 q341) (zh_Fw H C (by decide) q308 q307 q340 q338 q336) (by decide +kernel) ⟨(Nat.le_of_ble_eq_true rfl), (Nat.le_of_ble_eq_true rfl)⟩ rfl hl.1 rfl (zw_le zw_nil (Nat.le_of_ble_eq_true rfl)) dX2_byEnds_12) (cl_fl)))) (fun v12 => ?_)
  refine rk_ofs (fun _ _ _ _ _ k => lr_astore_n hx hb dX2_byEnds_17 rfl hl (Nat.le_of_ble_eq_true rfl) [0] rfl ⟨(by first | exact va_rf_cat _ | rfl), trivial⟩ k) (fun ls hl => ?_)
  refine rk_join (β := Unit) (fun (b100 : Unit) ls => lv_has ls 7 [(1, va_rf (some v0))]) (fun (b100 : Unit) ls => F0 m 100 ls []) (fun b100 ls hl => ?_) (fun hJ100 => ?_)
  · refine rk_of (fun _ _ _ _ _ k => lr_aload_n hx hb dX2_byEnds_100 rfl (lv_at hl 0 rfl) k) ?_
    exact rk_top (rf_aret C (Or.inl ⟨_, rfl⟩) dX2_byEnds_101)
  · exact rf_X2_byEnds_18 H C hX (some v0) v12 zm_N _ ls (lv_sub hl [1, 0] rfl) hJ100
theorem hd_X8_party : yX8_party.cls ≠ "java/lang/invoke/MethodHandle" ∧ yX8_party.cls ≠ "java/lang/invoke/VarHandle" ∧ (parseMethodDescriptor yX8_party.desc).map (fun d => d.parameters.length) = some 0 := by decide +kernel
noncomputable def fn_X8_party (K : zm_K) (a0 : zm_R) : zm_M Int32 :=
  zm_bnd (zm_getI a0 24 0) fun v1 =>
  zm_ret v1
theorem ct_X8_party {l : Launch} {Ω : zm_W} {K : zm_K} (H : zm_H Ω K) (a0 : zm_R) : zm_Ct l Ω yX8_party (ws_ yX8_party cX8_party 1 (Option.some Jvm.ClassFile.FieldType.int)) 1 64 [va_rf a0] zm_tvI (fn_X8_party K a0) := by
  refine zm_ct H.1 (by decide +kernel) (zl_le (zl_R zl_nil) (Nat.le_of_ble_eq_true rfl)) ?_
  intro p e R s m args below meth c n0 k0 C hX ls hl
  have hx := C.1
  have hb := C.2.1
  simp only [zg_R, zg_nil] at hl
  have hl : lv_has ls 1 [(0, va_rf a0)] := hl
  refine rk_rf ?_
  unfold fn_X8_party
  refine rk_of (fun _ _ _ _ _ k => lr_aload_n hx hb dX8_party_0 rfl (lv_at hl 0 rfl) k) ?_
  refine rk_get zm_rdI_eq C (hc_X8 H) (k := 0) (Nat.le_of_ble_eq_true rfl) in_X8 q1615 (fun _ h => h) dX8_party_1 (fun v1 => ?_)
  exact rk_top (rf_iret C rfl dX8_party_4)
theorem hd_X2_roomFor : yX2_roomFor.cls ≠ "java/lang/invoke/MethodHandle" ∧ yX2_roomFor.cls ≠ "java/lang/invoke/VarHandle" ∧ (parseMethodDescriptor yX2_roomFor.desc).map (fun d => d.parameters.length) = some 2 := by decide +kernel
noncomputable def fn_X2_roomFor_2 (K : zm_K) (p0 : zm_R) (p1 : Int32) (p2 : zm_R) : Nat → Int32 → zm_M ((Unit) ⊕ (Int32))
  | 0, _ => zm_fl
  | n + 1, x3 =>
    zm_bnd (zm_bnd (zm_is p0 19) fun _ => fn_X2_boxes K p0) fun v4 =>
    if v4 ≤ x3 then
      zm_ret (Sum.inl ())
    else
      zm_bnd (zm_bnd (zm_is p0 19) fun _ => fn_X2_seats K p0 x3) fun v12 =>
      zm_bnx (β := Unit) (
          if v12 < p1 then
            zm_ret (Sum.inl ())
          else
            zm_bnd (zm_bnd (zm_is p0 19) fun _ => fn_X2_overlapping K p0 x3 p2 (-1)) fun v23 =>
            if v23 = (-1) then
              zm_ret (Sum.inr (Sum.inr x3))
            else
              zm_ret (Sum.inl ())
        ) fun (_ : Unit) =>
      fn_X2_roomFor_2 K p0 p1 p2 n (x3 + 1)
noncomputable def fn_X2_roomFor (K : zm_K) (a0 : zm_R) (a1 : Int32) (a2 : zm_R) : zm_M Int32 :=
  zm_bnx (β := Unit) (fn_X2_roomFor_2 K a0 a1 a2 zm_N 0) fun (_ : Unit) =>
  zm_ret (-1)
theorem rf_X2_roomFor_2 (H : zm_H Ω K) (C : zm_C p l R s m args meth c Ω lw_all cX2_roomFor yX2_roomFor.cls yX2_roomFor.name 4 12 301 (Option.some Jvm.ClassFile.FieldType.int)) (hX : zm_XO p l e R s m args below meth c Ω n0 k0 (zm_QFs below args s Ω n0 k0 zm_tvI)) (p0 : zm_R) (p1 : Int32) (p2 : zm_R) : ∀ (n : Nat) (x3 : Int32) (J : ((Unit) ⊕ (Int32)) → zm_M Int32) (ls : Array Slot), lv_has ls 4 [(0, va_rf p0), (1, .int p1), (2, va_rf p2), (3, .int x3)] → (∀ (b : Unit) (ls : Array Slot), lv_has ls 4 [] → zm_RK p l e R s m args below meth c Ω n0 k0 (zm_QFs below args s Ω n0 k0 zm_tvI) (zm_ret (Sum.inl b)) J (F0 m 38 ls [])) → (∀ (v : Int32) (g : JFrame), zm_RF p l e R s m args below meth c Ω n0 k0 (zm_QFs below args s Ω n0 k0 zm_tvI) (zm_ret v) g → zm_RK p l e R s m args below meth c Ω n0 k0 (zm_QFs below args s Ω n0 k0 zm_tvI) (zm_ret (Sum.inr v)) J g) → zm_RK p l e R s m args below meth c Ω n0 k0 (zm_QFs below args s Ω n0 k0 zm_tvI) (fn_X2_roomFor_2 K p0 p1 p2 n x3) J (F0 m 2 ls []) := by
  have hx := C.1
  have hb := C.2.1
  intro n
  induction n with
  | zero => intro x3 J ls hl hJ hR; exact rk_fl
  | succ n ih =>
    intro x3 J ls hl hJ hR
    unfold fn_X2_roomFor_2
    refine rk_of (fun _ _ _ _ _ k => lv_iload_n hx hb dX2_roomFor_2 rfl (lv_at hl 3 rfl) (lr_aload_n hx hb dX2_roomFor_3 rfl (lv_at hl 0 rfl) k)) ?_
    refine rk_callI hX (cl_V (rest := [.int x3]) (av := []) C (hc_X2 H) (ct_X2_boxes H p0) (lw_V q1086 q1087 q1088 q102 q1089) ⟨rfl, hd_X2_boxes⟩ ⟨(Nat.le_of_ble_eq_true rfl), (Nat.le_of_ble_eq_true rfl)⟩ rfl hl.1 rfl (zw_le (zw_I zw_nil) (Nat.le_of_ble_eq_true rfl)) dX2_roomFor_4) (fun v4 => ?_)
    refine rk_ite (fun _ _ _ _ _ k1 k2 => lv_icmp_ge (tgt := 38) hx hb dX2_roomFor_7 (by decide) k1 k2) (fun c_7 => ?_) (fun c_7 => ?_)
    · exact hJ () ls (lv_sub hl [] rfl)
    · refine rk_of (fun _ _ _ _ _ k => lr_aload_n hx hb dX2_roomFor_10 rfl (lv_at hl 0 rfl) (lv_iload_n hx hb dX2_roomFor_11 rfl (lv_at hl 3 rfl) k)) ?_
      refine rk_callI hX (cl_V (rest := []) (av := [.int x3]) C (hc_X2 H) (ct_X2_seats H p0 x3) (lw_V q1420 q1421 q1422 q102 q1423) ⟨rfl, hd_X2_seats⟩ ⟨(Nat.le_of_ble_eq_true rfl), (Nat.le_of_ble_eq_true rfl)⟩ rfl hl.1 rfl (zw_le zw_nil (Nat.le_of_ble_eq_true rfl)) dX2_roomFor_12) (fun v12 => ?_)
      refine rk_of (fun _ _ _ _ _ k => lv_iload_n hx hb dX2_roomFor_15 rfl (lv_at hl 1 rfl) k) ?_
      refine rk_joinx (β := Unit) (fun (b32 : Unit) ls => lv_has ls 4 [(0, va_rf p0), (1, .int p1), (2, va_rf p2), (3, .int x3)]) (fun (b32 : Unit) ls => F0 m 32 ls []) (fun b32 ls hl => ?_) (fun hJ32 => ?_)
      · refine rk_ofs (fun _ _ _ _ _ k => lr_iinc (v := x3 + 1) hx hb dX2_roomFor_32 hl (k := 3) rfl rfl (Nat.le_of_ble_eq_true rfl) [0, 1, 2] rfl ⟨trivial, ⟨trivial, ⟨(by first | exact va_rf_cat _ | rfl), trivial⟩⟩⟩ k) (fun ls hl => ?_)
        refine rk_of (fun _ _ _ _ _ k => lv_goto (tgt := 2) hx hb dX2_roomFor_35 (by decide) k) ?_
        exact ih (x3 + 1) J ls (lv_sub hl [1, 2, 3, 0] rfl) hJ hR
      · refine rk_ite (fun _ _ _ _ _ k1 k2 => lv_icmp_lt (tgt := 32) hx hb dX2_roomFor_16 (by decide) k1 k2) (fun c_16 => ?_) (fun c_16 => ?_)
        · exact hJ32 () ls (lv_sub hl [0, 1, 2, 3] rfl)
        · refine rk_of (fun _ _ _ _ _ k => lr_aload_n hx hb dX2_roomFor_19 rfl (lv_at hl 0 rfl) (lv_iload_n hx hb dX2_roomFor_20 rfl (lv_at hl 3 rfl) (lr_aload_n hx hb dX2_roomFor_21 rfl (lv_at hl 2 rfl) (lv_iconst (v := (-1)) hx hb dX2_roomFor_22 rfl k)))) ?_
          refine rk_callI hX (cl_V (rest := []) (av := [.int x3, va_rf p2, .int (-1)]) C (hc_X2 H) (ct_X2_overlapping H p0 x3 p2 (-1)) (lw_V q1433 q1435 qs17 q102 q1436) ⟨rfl, hd_X2_overlapping⟩ ⟨(Nat.le_of_ble_eq_true rfl), (Nat.le_of_ble_eq_true rfl)⟩ rfl hl.1 rfl (zw_le zw_nil (Nat.le_of_ble_eq_true rfl)) dX2_roomFor_23) (fun v23 => ?_)
          refine rk_ite (fun _ _ _ _ _ k1 k2 => lv_iconst (v := (-1)) hx hb dX2_roomFor_26 rfl (lv_icmp_ne (tgt := 32) hx hb dX2_roomFor_27 (by decide) k2 k1)) (fun c_27 => ?_) (fun c_27 => ?_)
          · refine rk_of (fun _ _ _ _ _ k => lv_iload_n hx hb dX2_roomFor_30 rfl (lv_at hl 3 rfl) k) ?_
            refine rk_inr ?_
            exact hR _ _ (rf_iret C rfl dX2_roomFor_31)
          · exact hJ32 () ls (lv_sub hl [0, 1, 2, 3] rfl)
theorem ct_X2_roomFor {l : Launch} {Ω : zm_W} {K : zm_K} (H : zm_H Ω K) (a0 : zm_R) (a1 : Int32) (a2 : zm_R) : zm_Ct l Ω yX2_roomFor (ws_ yX2_roomFor cX2_roomFor 4 (Option.some Jvm.ClassFile.FieldType.int)) 12 301 [va_rf a0, .int a1, va_rf a2] zm_tvI (fn_X2_roomFor K a0 a1 a2) := by
  refine zm_ct H.1 (by decide +kernel) (zl_le (zl_R (zl_I (zl_R zl_nil))) (Nat.le_of_ble_eq_true rfl)) ?_
  intro p e R s m args below meth c n0 k0 C hX ls hl
  have hx := C.1
  have hb := C.2.1
  simp only [zg_I, zg_R, zg_nil] at hl
  have hl : lv_has ls 4 [(0, va_rf a0), (1, .int a1), (2, va_rf a2)] := hl
  refine rk_rf ?_
  unfold fn_X2_roomFor
  refine rk_ofs (fun _ _ _ _ _ k => lv_iconst (v := 0) hx hb dX2_roomFor_0 rfl (lr_istore_n hx hb dX2_roomFor_1 rfl hl (Nat.le_of_ble_eq_true rfl) [0, 1, 2] rfl ⟨trivial, ⟨trivial, ⟨(by first | exact va_rf_cat _ | rfl), trivial⟩⟩⟩ k)) (fun ls hl => ?_)
  refine rk_joinx (β := Unit) (fun (b38 : Unit) ls => lv_has ls 4 []) (fun (b38 : Unit) ls => F0 m 38 ls []) (fun b38 ls hl => ?_) (fun hJ38 => ?_)
  · refine rk_of (fun _ _ _ _ _ k => lv_iconst (v := (-1)) hx hb dX2_roomFor_38 rfl k) ?_
    exact rk_top (rf_iret C rfl dX2_roomFor_39)
  · exact rf_X2_roomFor_2 H C hX a0 a1 a2 zm_N 0 _ ls (lv_sub hl [1, 2, 3, 0] rfl) hJ38 (fun v g k9 => by
        refine rk_inr ?_
        exact rk_top (k9))
theorem hd_X8_span : yX8_span.cls ≠ "java/lang/invoke/MethodHandle" ∧ yX8_span.cls ≠ "java/lang/invoke/VarHandle" ∧ (parseMethodDescriptor yX8_span.desc).map (fun d => d.parameters.length) = some 0 := by decide +kernel
noncomputable def fn_X8_span (K : zm_K) (a0 : zm_R) : zm_M zm_R :=
  zm_bnd (zm_getR a0 24 1) fun v1 =>
  zm_ret v1
theorem ct_X8_span {l : Launch} {Ω : zm_W} {K : zm_K} (H : zm_H Ω K) (a0 : zm_R) : zm_Ct l Ω yX8_span (ws_ yX8_span cX8_span 1 (Option.some (Jvm.ClassFile.FieldType.object "BoxSpans$Span"))) 1 64 [va_rf a0] zm_tvR (fn_X8_span K a0) := by
  refine zm_ct H.1 (by decide +kernel) (zl_le (zl_R zl_nil) (Nat.le_of_ble_eq_true rfl)) ?_
  intro p e R s m args below meth c n0 k0 C hX ls hl
  have hx := C.1
  have hb := C.2.1
  simp only [zg_R, zg_nil] at hl
  have hl : lv_has ls 1 [(0, va_rf a0)] := hl
  refine rk_rf ?_
  unfold fn_X8_span
  refine rk_of (fun _ _ _ _ _ k => lr_aload_n hx hb dX8_span_0 rfl (lv_at hl 0 rfl) k) ?_
  refine rk_get zm_rdR_eq C (hc_X8 H) (k := 1) (Nat.le_of_ble_eq_true rfl) in_X8 q1616 (fun _ h => h) dX8_span_1 (fun v1 => ?_)
  exact rk_top (rf_aret C (Or.inl ⟨_, rfl⟩) dX8_span_4)
theorem hd_X2_numberOf : yX2_numberOf.cls ≠ "java/lang/invoke/MethodHandle" ∧ yX2_numberOf.cls ≠ "java/lang/invoke/VarHandle" ∧ (parseMethodDescriptor yX2_numberOf.desc).map (fun d => d.parameters.length) = some 1 := by decide +kernel
noncomputable def fn_X2_numberOf_2 (K : zm_K) (p0 : zm_R) (p1 : zm_R) : Nat → Int32 → zm_M (Int32)
  | 0, _ => zm_fl
  | n + 1, x2 =>
    zm_bnd (zm_getR p0 19 2) fun v3 =>
    zm_bnd (zm_bnd (zm_cls v3) fun ci => if ci = 0 then fn_J2_get K v3 x2 else if ci = 1 then fn_J4_get K v3 x2 else zm_fl) fun v7 =>
    if v7 = p1 then
      zm_ret x2
    else
      fn_X2_numberOf_2 K p0 p1 n (x2 + 1)
noncomputable def fn_X2_numberOf (K : zm_K) (a0 : zm_R) (a1 : zm_R) : zm_M Int32 :=
  zm_bnd (α := Int32) (fn_X2_numberOf_2 K a0 a1 zm_N 0) fun b22 =>
  zm_ret b22
theorem rf_X2_numberOf_2 (H : zm_H Ω K) (C : zm_C p l R s m args meth c Ω lw_all cX2_numberOf yX2_numberOf.cls yX2_numberOf.name 3 10 254 (Option.some Jvm.ClassFile.FieldType.int)) (hX : zm_XO p l e R s m args below meth c Ω n0 k0 (zm_QFs below args s Ω n0 k0 zm_tvI)) (p0 : zm_R) (p1 : zm_R) : ∀ (n : Nat) (x2 : Int32) (J : (Int32) → zm_M Int32) (ls : Array Slot), lv_has ls 3 [(0, va_rf p0), (1, va_rf p1), (2, .int x2)] → (∀ (b : Int32) (ls : Array Slot), lv_has ls 3 [(2, .int b)] → zm_RK p l e R s m args below meth c Ω n0 k0 (zm_QFs below args s Ω n0 k0 zm_tvI) (zm_ret b) J (F0 m 22 ls [])) → zm_RK p l e R s m args below meth c Ω n0 k0 (zm_QFs below args s Ω n0 k0 zm_tvI) (fn_X2_numberOf_2 K p0 p1 n x2) J (F0 m 2 ls []) := by
  have hx := C.1
  have hb := C.2.1
  intro n
  induction n with
  | zero => intro x2 J ls hl hJ; exact rk_fl
  | succ n ih =>
    intro x2 J ls hl hJ
    unfold fn_X2_numberOf_2
    refine rk_of (fun _ _ _ _ _ k => lr_aload_n hx hb dX2_numberOf_2 rfl (lv_at hl 0 rfl) k) ?_
    refine rk_get zm_rdR_eq C (hc_X2 H) (k := 2) (Nat.le_of_ble_eq_true rfl) in_X2 q199 (fun _ h => h) dX2_numberOf_3 (fun v3 => ?_)
    refine rk_of (fun _ _ _ _ _ k => lv_iload_n hx hb dX2_numberOf_6 rfl (lv_at hl 2 rfl) k) ?_
    refine rk_callR hX (cl_dsp (fun ci => cl_case (cl_F (n := 1) (rest := []) (av := [.int x2]) C (hc_J2 H) (ct_J2_get H v3 x2) (lw_F q1064 q1067 q847 q105 q848) (zh_Fw H C (by decide) q1066 q1065 q1069 q1068 q309) (by decide +kernel) ⟨(Nat.le_of_ble_eq_true rfl), (Nat.le_of_ble_eq_true rfl)⟩ rfl hl.1 rfl (zw_le zw_nil (Nat.le_of_ble_eq_true rfl)) dX2_numberOf_7) (cl_case (cl_F (n := 1) (rest := []) (av := [.int x2]) C (hc_J4 H) (ct_J4_get H v3 x2) (lw_F q1064 q1070 q860 q107 q861) (zh_Fw H C (by decide) q1066 q1065 q1072 q1071 q336) (by decide +kernel) ⟨(Nat.le_of_ble_eq_true rfl), (Nat.le_of_ble_eq_true rfl)⟩ rfl hl.1 rfl (zw_le zw_nil (Nat.le_of_ble_eq_true rfl)) dX2_numberOf_7) (cl_fl)))) (fun v7 => ?_)
    refine rk_ite (fun _ _ _ _ _ k1 k2 => lr_aload_n hx hb dX2_numberOf_12 rfl (lv_at hl 1 rfl) (lv_acmp_eq (tgt := 22) hx hb dX2_numberOf_13 (by decide) k1 k2)) (fun c_13 => ?_) (fun c_13 => ?_)
    · exact hJ x2 ls (lv_sub hl [2] rfl)
    · refine rk_ofs (fun _ _ _ _ _ k => lr_iinc (v := x2 + 1) hx hb dX2_numberOf_16 hl (k := 2) rfl rfl (Nat.le_of_ble_eq_true rfl) [0, 1] rfl ⟨trivial, ⟨(by first | exact va_rf_cat _ | rfl), trivial⟩⟩ k) (fun ls hl => ?_)
      refine rk_of (fun _ _ _ _ _ k => lv_goto (tgt := 2) hx hb dX2_numberOf_19 (by decide) k) ?_
      exact ih (x2 + 1) J ls (lv_sub hl [1, 2, 0] rfl) hJ
theorem ct_X2_numberOf {l : Launch} {Ω : zm_W} {K : zm_K} (H : zm_H Ω K) (a0 : zm_R) (a1 : zm_R) : zm_Ct l Ω yX2_numberOf (ws_ yX2_numberOf cX2_numberOf 3 (Option.some Jvm.ClassFile.FieldType.int)) 10 254 [va_rf a0, va_rf a1] zm_tvI (fn_X2_numberOf K a0 a1) := by
  refine zm_ct H.1 (by decide +kernel) (zl_le (zl_R (zl_R zl_nil)) (Nat.le_of_ble_eq_true rfl)) ?_
  intro p e R s m args below meth c n0 k0 C hX ls hl
  have hx := C.1
  have hb := C.2.1
  simp only [zg_R, zg_nil] at hl
  have hl : lv_has ls 3 [(0, va_rf a0), (1, va_rf a1)] := hl
  refine rk_rf ?_
  unfold fn_X2_numberOf
  refine rk_ofs (fun _ _ _ _ _ k => lv_iconst (v := 0) hx hb dX2_numberOf_0 rfl (lr_istore_n hx hb dX2_numberOf_1 rfl hl (Nat.le_of_ble_eq_true rfl) [0, 1] rfl ⟨trivial, ⟨(by first | exact va_rf_cat _ | rfl), trivial⟩⟩ k)) (fun ls hl => ?_)
  refine rk_join (β := Int32) (fun (b22 : Int32) ls => lv_has ls 3 [(2, .int b22)]) (fun (b22 : Int32) ls => F0 m 22 ls []) (fun b22 ls hl => ?_) (fun hJ22 => ?_)
  · refine rk_of (fun _ _ _ _ _ k => lv_iload_n hx hb dX2_numberOf_22 rfl (lv_at hl 0 rfl) k) ?_
    exact rk_top (rf_iret C rfl dX2_numberOf_23)
  · exact rf_X2_numberOf_2 H C hX a0 a1 zm_N 0 _ ls (lv_sub hl [1, 2, 0] rfl) hJ22
theorem hd_X2_allots : yX2_allots.cls ≠ "java/lang/invoke/MethodHandle" ∧ yX2_allots.cls ≠ "java/lang/invoke/VarHandle" ∧ (parseMethodDescriptor yX2_allots.desc).map (fun d => d.parameters.length) = some 0 := by decide +kernel
noncomputable def fn_X2_allots_35 (K : zm_K) (p0 : zm_R) (p2 : zm_R) : Nat → Int32 → zm_M (Int32)
  | 0, _ => zm_fl
  | n + 1, x1 =>
    zm_bnd (zm_bnd (zm_cls p2) fun ci => if ci = 26 then fn_X10_hasNext K p2 else if ci = 9 then fn_J22_hasNext K p2 else if ci = 11 then fn_J25_hasNext K p2 else zm_fl) fun v36 =>
    if v36 = 0 then
      zm_ret x1
    else
      zm_bnd (zm_bnd (zm_cls p2) fun ci => if ci = 26 then fn_X10_next K p2 else if ci = 9 then fn_J22_next K p2 else if ci = 11 then fn_J25_next K p2 else zm_fl) fun v45 =>
      zm_bnd (zm_chk [24] [] v45) fun _ =>
      zm_bnd (zm_bnd (zm_is v45 24) fun _ => fn_X8_party K v45) fun v56 =>
      zm_bnd (zm_bnd (zm_is p0 19) fun _ => fn_X2_roomFor K p0 v56 v45) fun v60 =>
      if v60 = (-1) then
        fn_X2_allots_35 K p0 p2 n x1
      else
        zm_bnd (zm_getR p0 19 1) fun v72 =>
        zm_bnd (zm_bnd (zm_cls v72) fun ci => if ci = 0 then fn_J2_size K v72 else if ci = 1 then fn_J4_size K v72 else zm_fl) fun v75 =>
        if 30 ≤ v75 then
          fn_X2_allots_35 K p0 p2 n x1
        else
          zm_bnd (zm_getR p0 19 1) fun v86 =>
          zm_bnd (zm_new 23 [.int 0, .int 0, .null, .int 0]) fun v89 =>
          zm_bnd (zm_bnd (zm_is v45 24) fun _ => fn_X8_party K v45) fun v96 =>
          zm_bnd (zm_bnd (zm_is v45 24) fun _ => fn_X8_span K v45) fun v100 =>
          zm_bnd (fn_X6_init K (some v89) v60 v96 v100) fun _ =>
          zm_bnd (zm_bnd (zm_cls v86) fun ci => if ci = 0 then fn_J2_add K v86 (some v89) else if ci = 1 then fn_J4_add K v86 (some v89) else zm_fl) fun v106 =>
          zm_bnd (zm_bnd (zm_is p0 19) fun _ => fn_X2_numberOf K p0 v45) fun v115 =>
          zm_bnd (zm_bnd (zm_is p0 19) fun _ => fn_X2_drops K p0 v115) fun v118 =>
          fn_X2_allots_35 K p0 p2 n (x1 + 1)
noncomputable def fn_X2_allots (K : zm_K) (a0 : zm_R) : zm_M Int32 :=
  zm_bnd (zm_getR a0 19 2) fun v1 =>
  zm_bnd (zm_bnd (zm_cls v1) fun ci => if ci = 0 then fn_J2_isEmpty K v1 else if ci = 1 then fn_J0_isEmpty K v1 else zm_fl) fun v4 =>
  zm_bnd (α := Int32) (
      if v4 = 0 then
        zm_ret 1
      else
        zm_ret 0
    ) fun b17 =>
  zm_bnd (fn_X1_meet K b17 9 0) fun _ =>
  zm_bnd (zm_bnd (zm_is a0 19) fun _ => fn_X2_byEnds K a0) fun v26 =>
  zm_bnd (zm_bnd (zm_cls v26) fun ci => if ci = 0 then fn_J2_iterator K v26 else if ci = 1 then fn_J3_iterator K v26 else zm_fl) fun v29 =>
  zm_bnd (α := Int32) (fn_X2_allots_35 K a0 v29 zm_N 0) fun b128 =>
  zm_bnd (zm_getI a0 19 3) fun v130 =>
  zm_bnd (zm_putF K a0 19 3 (.int (v130 + b128))) fun _ =>
  zm_ret b128
theorem rf_X2_allots_35 (H : zm_H Ω K) (C : zm_C p l R s m args meth c Ω lw_all cX2_allots yX2_allots.cls yX2_allots.name 5 18 441 (Option.some Jvm.ClassFile.FieldType.int)) (hX : zm_XO p l e R s m args below meth c Ω n0 k0 (zm_QFs below args s Ω n0 k0 zm_tvI)) (p0 : zm_R) (p2 : zm_R) : ∀ (n : Nat) (x1 : Int32) (J : (Int32) → zm_M Int32) (ls : Array Slot), lv_has ls 5 [(0, va_rf p0), (2, va_rf p2), (1, .int x1)] → (∀ (b : Int32) (ls : Array Slot), lv_has ls 5 [(0, va_rf p0), (1, .int b)] → zm_RK p l e R s m args below meth c Ω n0 k0 (zm_QFs below args s Ω n0 k0 zm_tvI) (zm_ret b) J (F0 m 128 ls [])) → zm_RK p l e R s m args below meth c Ω n0 k0 (zm_QFs below args s Ω n0 k0 zm_tvI) (fn_X2_allots_35 K p0 p2 n x1) J (F0 m 35 ls []) := by
  have hx := C.1
  have hb := C.2.1
  intro n
  induction n with
  | zero => intro x1 J ls hl hJ; exact rk_fl
  | succ n ih =>
    intro x1 J ls hl hJ
    unfold fn_X2_allots_35
    refine rk_of (fun _ _ _ _ _ k => lr_aload_n hx hb dX2_allots_35 rfl (lv_at hl 1 rfl) k) ?_
    refine rk_callI hX (cl_dsp (fun ci => cl_case (cl_F (n := 0) (rest := []) (av := []) C (hc_X10 H) (ct_X10_hasNext H p2) (lw_F q733 q737 q739 q143 q741) (zh_Fw H C (by decide) q735 q734 q740 q738 q736) (by decide +kernel) ⟨(Nat.le_of_ble_eq_true rfl), (Nat.le_of_ble_eq_true rfl)⟩ rfl hl.1 rfl (zw_le zw_nil (Nat.le_of_ble_eq_true rfl)) dX2_allots_36) (cl_case (cl_F (n := 0) (rest := []) (av := []) C (hc_J22 H) (ct_J22_hasNext H p2) (lw_F q733 q758 q760 q129 q762) (zh_Fw H C (by decide) q735 q734 q761 q759 q757) (by decide +kernel) ⟨(Nat.le_of_ble_eq_true rfl), (Nat.le_of_ble_eq_true rfl)⟩ rfl hl.1 rfl (zw_le zw_nil (Nat.le_of_ble_eq_true rfl)) dX2_allots_36) (cl_case (cl_F (n := 0) (rest := []) (av := []) C (hc_J25 H) (ct_J25_hasNext H p2) (lw_F q733 q767 q769 q133 q771) (zh_Fw H C (by decide) q735 q734 q770 q768 q766) (by decide +kernel) ⟨(Nat.le_of_ble_eq_true rfl), (Nat.le_of_ble_eq_true rfl)⟩ rfl hl.1 rfl (zw_le zw_nil (Nat.le_of_ble_eq_true rfl)) dX2_allots_36) (cl_fl))))) (fun v36 => ?_)
    refine rk_ite (fun _ _ _ _ _ k1 k2 => lv_if_eq (tgt := 128) hx hb dX2_allots_41 (by decide) k1 k2) (fun c_41 => ?_) (fun c_41 => ?_)
    · exact hJ x1 ls (lv_sub hl [0, 2] rfl)
    · refine rk_of (fun _ _ _ _ _ k => lr_aload_n hx hb dX2_allots_44 rfl (lv_at hl 1 rfl) k) ?_
      refine rk_callR hX (cl_dsp (fun ci => cl_case (cl_F (n := 0) (rest := []) (av := []) C (hc_X10 H) (ct_X10_next H p2) (lw_F q773 q776 q778 q143 q780) (zh_Fw H C (by decide) q775 q774 q779 q777 q736) (by decide +kernel) ⟨(Nat.le_of_ble_eq_true rfl), (Nat.le_of_ble_eq_true rfl)⟩ rfl hl.1 rfl (zw_le zw_nil (Nat.le_of_ble_eq_true rfl)) dX2_allots_45) (cl_case (cl_F (n := 0) (rest := []) (av := []) C (hc_J22 H) (ct_J22_next H p2) (lw_F q773 q966 q968 q129 q970) (zh_Fw H C (by decide) q775 q774 q969 q967 q757) (by decide +kernel) ⟨(Nat.le_of_ble_eq_true rfl), (Nat.le_of_ble_eq_true rfl)⟩ rfl hl.1 rfl (zw_le zw_nil (Nat.le_of_ble_eq_true rfl)) dX2_allots_45) (cl_case (cl_F (n := 0) (rest := []) (av := []) C (hc_J25 H) (ct_J25_next H p2) (lw_F q773 q981 q983 q133 q985) (zh_Fw H C (by decide) q775 q774 q984 q982 q766) (by decide +kernel) ⟨(Nat.le_of_ble_eq_true rfl), (Nat.le_of_ble_eq_true rfl)⟩ rfl hl.1 rfl (zw_le zw_nil (Nat.le_of_ble_eq_true rfl)) dX2_allots_45) (cl_fl))))) (fun v45 => ?_)
      refine rk_chk C q993 (zc_cons (zc_s (hc_X8 H)) zc_nil) zp_nil dX2_allots_50 ?_
      refine rk_ofs (fun _ _ _ _ _ k => lr_astore_n hx hb dX2_allots_53 rfl hl (Nat.le_of_ble_eq_true rfl) [0, 1, 2] rfl ⟨trivial, ⟨(by first | exact va_rf_cat _ | rfl), ⟨trivial, trivial⟩⟩⟩ k) (fun ls hl => ?_)
      refine rk_of (fun _ _ _ _ _ k => lr_aload_n hx hb dX2_allots_54 rfl (lv_at hl 1 rfl) (lr_aload_n hx hb dX2_allots_55 rfl (lv_at hl 0 rfl) k)) ?_
      refine rk_callI hX (cl_V (rest := [va_rf p0]) (av := []) C (hc_X8 H) (ct_X8_party H v45) (lw_V q1761 q1673 q1674 q141 q1675) ⟨rfl, hd_X8_party⟩ ⟨(Nat.le_of_ble_eq_true rfl), (Nat.le_of_ble_eq_true rfl)⟩ rfl hl.1 rfl (zw_le (zw_R zw_nil) (Nat.le_of_ble_eq_true rfl)) dX2_allots_56) (fun v56 => ?_)
      refine rk_of (fun _ _ _ _ _ k => lr_aload_n hx hb dX2_allots_59 rfl (lv_at hl 0 rfl) k) ?_
      refine rk_callI hX (cl_V (rest := []) (av := [.int v56, va_rf v45]) C (hc_X2 H) (ct_X2_roomFor H p0 v56 v45) (lw_V q1762 q1763 q1764 q102 q1765) ⟨rfl, hd_X2_roomFor⟩ ⟨(Nat.le_of_ble_eq_true rfl), (Nat.le_of_ble_eq_true rfl)⟩ rfl hl.1 rfl (zw_le zw_nil (Nat.le_of_ble_eq_true rfl)) dX2_allots_60) (fun v60 => ?_)
      refine rk_ofs (fun _ _ _ _ _ k => lr_istore hx hb dX2_allots_63 hl (Nat.le_of_ble_eq_true rfl) [0, 1, 2, 3] rfl ⟨(by first | exact va_rf_cat _ | rfl), ⟨trivial, ⟨trivial, ⟨trivial, trivial⟩⟩⟩⟩ k) (fun ls hl => ?_)
      refine rk_ite (fun _ _ _ _ _ k1 k2 => lv_iload hx hb dX2_allots_65 (lv_at hl 0 rfl) (lv_iconst (v := (-1)) hx hb dX2_allots_67 rfl (lv_icmp_eq (tgt := 125) hx hb dX2_allots_68 (by decide) k1 k2))) (fun c_68 => ?_) (fun c_68 => ?_)
      · refine rk_of (fun _ _ _ _ _ k => lv_goto (tgt := 35) hx hb dX2_allots_125 (by decide) k) ?_
        exact ih x1 J ls (lv_sub hl [2, 3, 4] rfl) hJ
      · refine rk_of (fun _ _ _ _ _ k => lr_aload_n hx hb dX2_allots_71 rfl (lv_at hl 2 rfl) k) ?_
        refine rk_get zm_rdR_eq C (hc_X2 H) (k := 1) (Nat.le_of_ble_eq_true rfl) in_X2 q198 (fun _ h => h) dX2_allots_72 (fun v72 => ?_)
        refine rk_callI hX (cl_dsp (fun ci => cl_case (cl_F (n := 0) (rest := []) (av := []) C (hc_J2 H) (ct_J2_size H v72) (lw_F q1054 q1057 q752 q105 q753) (zh_Fw H C (by decide) q1056 q1055 q1059 q1058 q309) (by decide +kernel) ⟨(Nat.le_of_ble_eq_true rfl), (Nat.le_of_ble_eq_true rfl)⟩ rfl hl.1 rfl (zw_le zw_nil (Nat.le_of_ble_eq_true rfl)) dX2_allots_75) (cl_case (cl_F (n := 0) (rest := []) (av := []) C (hc_J4 H) (ct_J4_size H v72) (lw_F q1054 q1060 q755 q107 q756) (zh_Fw H C (by decide) q1056 q1055 q1062 q1061 q336) (by decide +kernel) ⟨(Nat.le_of_ble_eq_true rfl), (Nat.le_of_ble_eq_true rfl)⟩ rfl hl.1 rfl (zw_le zw_nil (Nat.le_of_ble_eq_true rfl)) dX2_allots_75) (cl_fl)))) (fun v75 => ?_)
        refine rk_ite (fun _ _ _ _ _ k1 k2 => lv_bipush (v := 30) hx hb dX2_allots_80 rfl (lv_icmp_ge (tgt := 125) hx hb dX2_allots_82 (by decide) k1 k2)) (fun c_82 => ?_) (fun c_82 => ?_)
        · refine rk_of (fun _ _ _ _ _ k => lv_goto (tgt := 35) hx hb dX2_allots_125 (by decide) k) ?_
          exact ih x1 J ls (lv_sub hl [2, 3, 4] rfl) hJ
        · refine rk_of (fun _ _ _ _ _ k => lr_aload_n hx hb dX2_allots_85 rfl (lv_at hl 2 rfl) k) ?_
          refine rk_get zm_rdR_eq C (hc_X2 H) (k := 1) (Nat.le_of_ble_eq_true rfl) in_X2 q198 (fun _ h => h) dX2_allots_86 (fun v86 => ?_)
          refine rk_new C (hc_X6 H) in_X6 tyX6_ok q1094 q1315 q137 (fs := [.int 0, .int 0, .null, .int 0]) rfl (fun j hj => zdf_X6 j hj) dX2_allots_89 (fun v89 => ?_)
          refine rk_of (fun _ _ _ _ _ k => lv_dup hx hb dX2_allots_92 (va_rf_cat _) (lv_iload hx hb dX2_allots_93 (lv_at hl 0 rfl) (lr_aload_n hx hb dX2_allots_95 rfl (lv_at hl 1 rfl) k))) ?_
          refine rk_callI hX (cl_V (rest := [.int v60, va_rf (some v89), va_rf (some v89), va_rf v86]) (av := []) C (hc_X8 H) (ct_X8_party H v45) (lw_V q1761 q1673 q1674 q141 q1675) ⟨rfl, hd_X8_party⟩ ⟨(Nat.le_of_ble_eq_true rfl), (Nat.le_of_ble_eq_true rfl)⟩ rfl hl.1 rfl (zw_le (zw_I (zw_R (zw_R (zw_R zw_nil)))) (Nat.le_of_ble_eq_true rfl)) dX2_allots_96) (fun v96 => ?_)
          refine rk_of (fun _ _ _ _ _ k => lr_aload_n hx hb dX2_allots_99 rfl (lv_at hl 1 rfl) k) ?_
          refine rk_callR hX (cl_V (rest := [.int v96, .int v60, va_rf (some v89), va_rf (some v89), va_rf v86]) (av := []) C (hc_X8 H) (ct_X8_span H v45) (lw_V q1766 q1767 q1768 q141 q1769) ⟨rfl, hd_X8_span⟩ ⟨(Nat.le_of_ble_eq_true rfl), (Nat.le_of_ble_eq_true rfl)⟩ rfl hl.1 rfl (zw_le (zw_I (zw_I (zw_R (zw_R (zw_R zw_nil))))) (Nat.le_of_ble_eq_true rfl)) dX2_allots_100) (fun v100 => ?_)
          refine rk_callV hX (cl_I (rest := [va_rf (some v89), va_rf v86]) C (ct_X6_init H (some v89) v60 v96 v100) (lw_meth q1318) q137 q1441 q1317 rfl hd_X6_init ⟨(Nat.le_of_ble_eq_true rfl), (Nat.le_of_ble_eq_true rfl)⟩ rfl hl.1 rfl (zw_le (zw_R (zw_R zw_nil)) (Nat.le_of_ble_eq_true rfl)) dX2_allots_103) (fun _ => ?_)
          refine rk_callI hX (cl_dsp (fun ci => cl_case (cl_F (n := 1) (rest := []) (av := [va_rf (some v89)]) C (hc_J2 H) (ct_J2_add H v86 (some v89)) (lw_F q1199 q1202 q1204 q105 q1206) (zh_Fw H C (by decide) q1201 q1200 q1205 q1203 q309) (by decide +kernel) ⟨(Nat.le_of_ble_eq_true rfl), (Nat.le_of_ble_eq_true rfl)⟩ rfl hl.1 rfl (zw_le zw_nil (Nat.le_of_ble_eq_true rfl)) dX2_allots_106) (cl_case (cl_F (n := 1) (rest := []) (av := [va_rf (some v89)]) C (hc_J4 H) (ct_J4_add H v86 (some v89)) (lw_F q1199 q1232 q1234 q107 q1236) (zh_Fw H C (by decide) q1201 q1200 q1235 q1233 q336) (by decide +kernel) ⟨(Nat.le_of_ble_eq_true rfl), (Nat.le_of_ble_eq_true rfl)⟩ rfl hl.1 rfl (zw_le zw_nil (Nat.le_of_ble_eq_true rfl)) dX2_allots_106) (cl_fl)))) (fun v106 => ?_)
          refine rk_of (fun _ _ _ _ _ k => lv_pop hx hb dX2_allots_111 rfl (lr_aload_n hx hb dX2_allots_112 rfl (lv_at hl 2 rfl) (lr_aload_n hx hb dX2_allots_113 rfl (lv_at hl 2 rfl) (lr_aload_n hx hb dX2_allots_114 rfl (lv_at hl 1 rfl) k)))) ?_
          refine rk_callI hX (cl_V (rest := [va_rf p0]) (av := [va_rf v45]) C (hc_X2 H) (ct_X2_numberOf H p0 v45) (lw_V q1770 q1772 qs23 q102 q1773) ⟨rfl, hd_X2_numberOf⟩ ⟨(Nat.le_of_ble_eq_true rfl), (Nat.le_of_ble_eq_true rfl)⟩ rfl hl.1 rfl (zw_le (zw_R zw_nil) (Nat.le_of_ble_eq_true rfl)) dX2_allots_115) (fun v115 => ?_)
          refine rk_callI hX (cl_V (rest := []) (av := [.int v115]) C (hc_X2 H) (ct_X2_drops H p0 v115) (lw_V q1774 q1635 q1636 q102 q1637) ⟨rfl, hd_X2_drops⟩ ⟨(Nat.le_of_ble_eq_true rfl), (Nat.le_of_ble_eq_true rfl)⟩ rfl hl.1 rfl (zw_le zw_nil (Nat.le_of_ble_eq_true rfl)) dX2_allots_118) (fun v118 => ?_)
          refine rk_ofs (fun _ _ _ _ _ k => lv_pop hx hb dX2_allots_121 rfl (lr_iinc (v := x1 + 1) hx hb dX2_allots_122 hl (k := 4) rfl rfl (Nat.le_of_ble_eq_true rfl) [2, 3] rfl ⟨(by first | exact va_rf_cat _ | rfl), ⟨trivial, trivial⟩⟩ k)) (fun ls hl => ?_)
          refine rk_of (fun _ _ _ _ _ k => lv_goto (tgt := 35) hx hb dX2_allots_125 (by decide) k) ?_
          exact ih (x1 + 1) J ls (lv_sub hl [1, 2, 0] rfl) hJ
theorem ct_X2_allots {l : Launch} {Ω : zm_W} {K : zm_K} (H : zm_H Ω K) (a0 : zm_R) : zm_Ct l Ω yX2_allots (ws_ yX2_allots cX2_allots 5 (Option.some Jvm.ClassFile.FieldType.int)) 18 441 [va_rf a0] zm_tvI (fn_X2_allots K a0) := by
  refine zm_ct H.1 (by decide +kernel) (zl_le (zl_R zl_nil) (Nat.le_of_ble_eq_true rfl)) ?_
  intro p e R s m args below meth c n0 k0 C hX ls hl
  have hx := C.1
  have hb := C.2.1
  simp only [zg_R, zg_nil] at hl
  have hl : lv_has ls 5 [(0, va_rf a0)] := hl
  refine rk_rf ?_
  unfold fn_X2_allots
  refine rk_of (fun _ _ _ _ _ k => lr_aload_n hx hb dX2_allots_0 rfl (lv_at hl 0 rfl) k) ?_
  refine rk_get zm_rdR_eq C (hc_X2 H) (k := 2) (Nat.le_of_ble_eq_true rfl) in_X2 q199 (fun _ h => h) dX2_allots_1 (fun v1 => ?_)
  refine rk_callI hX (cl_dsp (fun ci => cl_case (cl_F (n := 0) (rest := []) (av := []) C (hc_J2 H) (ct_J2_isEmpty H v1) (lw_F q1736 q1706 q1708 q105 q1710) (zh_Fw H C (by decide) q1705 q1704 q1709 q1707 q309) (by decide +kernel) ⟨(Nat.le_of_ble_eq_true rfl), (Nat.le_of_ble_eq_true rfl)⟩ rfl hl.1 rfl (zw_le zw_nil (Nat.le_of_ble_eq_true rfl)) dX2_allots_4) (cl_case (cl_F (n := 0) (rest := []) (av := []) C (hc_J4 H) (ct_J0_isEmpty H v1) (lw_F q1736 q1711 q1713 q103 q1715) (zh_Fw H C (by decide) q1705 q1704 q1714 q1712 q336) (by decide +kernel) ⟨(Nat.le_of_ble_eq_true rfl), (Nat.le_of_ble_eq_true rfl)⟩ rfl hl.1 rfl (zw_le zw_nil (Nat.le_of_ble_eq_true rfl)) dX2_allots_4) (cl_fl)))) (fun v4 => ?_)
  refine rk_join (β := Int32) (fun (b17 : Int32) ls => lv_has ls 5 [(0, va_rf a0)]) (fun (b17 : Int32) ls => F0 m 17 ls [.int b17]) (fun b17 ls hl => ?_) (fun hJ17 => ?_)
  · refine rk_of (fun _ _ _ _ _ k => lv_bipush (v := 9) hx hb dX2_allots_17 rfl (lv_iconst (v := 0) hx hb dX2_allots_19 rfl k)) ?_
    refine rk_callV hX (cl_SN (rest := []) C (ct_X1_meet H b17 9 0) (lw_meth q1151) q101 (zn_wM H C q1149) q1150 hd_X1_meet ⟨(Nat.le_of_ble_eq_true rfl), (Nat.le_of_ble_eq_true rfl)⟩ rfl hl.1 rfl (zw_le zw_nil (Nat.le_of_ble_eq_true rfl)) dX2_allots_20) (fun _ => ?_)
    refine rk_ofs (fun _ _ _ _ _ k => lv_iconst (v := 0) hx hb dX2_allots_23 rfl (lr_istore_n hx hb dX2_allots_24 rfl hl (Nat.le_of_ble_eq_true rfl) [0] rfl ⟨(by first | exact va_rf_cat _ | rfl), trivial⟩ k)) (fun ls hl => ?_)
    refine rk_of (fun _ _ _ _ _ k => lr_aload_n hx hb dX2_allots_25 rfl (lv_at hl 1 rfl) k) ?_
    refine rk_callR hX (cl_V (rest := []) (av := []) C (hc_X2 H) (ct_X2_byEnds H a0) (lw_V q1737 q1739 qs22 q102 q1740) ⟨rfl, hd_X2_byEnds⟩ ⟨(Nat.le_of_ble_eq_true rfl), (Nat.le_of_ble_eq_true rfl)⟩ rfl hl.1 rfl (zw_le zw_nil (Nat.le_of_ble_eq_true rfl)) dX2_allots_26) (fun v26 => ?_)
    refine rk_callR hX (cl_dsp (fun ci => cl_case (cl_F (n := 0) (rest := []) (av := []) C (hc_J2 H) (ct_J2_iterator H v26) (lw_F q306 q310 q312 q105 q314) (zh_Fw H C (by decide) q308 q307 q313 q311 q309) (by decide +kernel) ⟨(Nat.le_of_ble_eq_true rfl), (Nat.le_of_ble_eq_true rfl)⟩ rfl hl.1 rfl (zw_le zw_nil (Nat.le_of_ble_eq_true rfl)) dX2_allots_29) (cl_case (cl_F (n := 0) (rest := []) (av := []) C (hc_J4 H) (ct_J3_iterator H v26) (lw_F q306 q337 q339 q106 q341) (zh_Fw H C (by decide) q308 q307 q340 q338 q336) (by decide +kernel) ⟨(Nat.le_of_ble_eq_true rfl), (Nat.le_of_ble_eq_true rfl)⟩ rfl hl.1 rfl (zw_le zw_nil (Nat.le_of_ble_eq_true rfl)) dX2_allots_29) (cl_fl)))) (fun v29 => ?_)
    refine rk_ofs (fun _ _ _ _ _ k => lr_astore_n hx hb dX2_allots_34 rfl hl (Nat.le_of_ble_eq_true rfl) [0, 1] rfl ⟨rfl, ⟨trivial, trivial⟩⟩ k) (fun ls hl => ?_)
    refine rk_join (β := Int32) (fun (b128 : Int32) ls => lv_has ls 5 [(0, va_rf a0), (1, .int b128)]) (fun (b128 : Int32) ls => F0 m 128 ls []) (fun b128 ls hl => ?_) (fun hJ128 => ?_)
    · refine rk_of (fun _ _ _ _ _ k => lr_aload_n hx hb dX2_allots_128 rfl (lv_at hl 0 rfl) (lv_dup hx hb dX2_allots_129 (va_rf_cat _) k)) ?_
      refine rk_get zm_rdI_eq C (hc_X2 H) (k := 3) (Nat.le_of_ble_eq_true rfl) in_X2 q200 (fun _ h => h) dX2_allots_130 (fun v130 => ?_)
      refine rk_of (fun _ _ _ _ _ k => lv_iload_n hx hb dX2_allots_133 rfl (lv_at hl 1 rfl) (lv_iadd hx hb dX2_allots_134 k)) ?_
      refine rk_put C H.2.2.1 (hc_X2 H) (k := 3) (Nat.le_of_ble_eq_true rfl) in_X2 (ty0 := tyX2) tyX2_ok nmX2 q200 (fun _ h => h) (Or.inl rfl) rfl rfl dX2_allots_135 ?_
      refine rk_of (fun _ _ _ _ _ k => lv_iload_n hx hb dX2_allots_138 rfl (lv_at hl 1 rfl) k) ?_
      exact rk_top (rf_iret C rfl dX2_allots_139)
    · exact rf_X2_allots_35 H C hX a0 v29 zm_N 0 _ ls (lv_sub hl [2, 0, 1] rfl) hJ128
  · refine rk_ite (fun _ _ _ _ _ k1 k2 => lv_if_ne (tgt := 16) hx hb dX2_allots_9 (by decide) k2 k1) (fun c_9 => ?_) (fun c_9 => ?_)
    · refine rk_of (fun _ _ _ _ _ k => lv_iconst (v := 1) hx hb dX2_allots_12 rfl (lv_goto (tgt := 17) hx hb dX2_allots_13 (by decide) k)) ?_
      exact hJ17 1 ls (lv_sub hl [0] rfl)
    · refine rk_of (fun _ _ _ _ _ k => lv_iconst (v := 0) hx hb dX2_allots_16 rfl k) ?_
      exact hJ17 0 ls (lv_sub hl [0] rfl)
theorem hd_X1_lambda_allot_8 : yX1_lambda_allot_8.cls ≠ "java/lang/invoke/MethodHandle" ∧ yX1_lambda_allot_8.cls ≠ "java/lang/invoke/VarHandle" ∧ (parseMethodDescriptor yX1_lambda_allot_8.desc).map (fun d => d.parameters.length) = some 1 := by decide +kernel
noncomputable def fn_X1_lambda_allot_8 (K : zm_K) (a0 : zm_R) : zm_M Int32 :=
  zm_bnd (zm_bnd (zm_is a0 19) fun _ => fn_X2_allots K a0) fun v1 =>
  zm_ret v1
theorem ct_X1_lambda_allot_8 {l : Launch} {Ω : zm_W} {K : zm_K} (H : zm_H Ω K) (a0 : zm_R) : zm_Ct l Ω yX1_lambda_allot_8 (ws_ yX1_lambda_allot_8 cX1_lambda_allot_8 1 (Option.some Jvm.ClassFile.FieldType.int)) 19 465 [va_rf a0] zm_tvI (fn_X1_lambda_allot_8 K a0) := by
  refine zm_ct H.1 (by decide +kernel) (zl_le (zl_R zl_nil) (Nat.le_of_ble_eq_true rfl)) ?_
  intro p e R s m args below meth c n0 k0 C hX ls hl
  have hx := C.1
  have hb := C.2.1
  simp only [zg_R, zg_nil] at hl
  have hl : lv_has ls 1 [(0, va_rf a0)] := hl
  refine rk_rf ?_
  unfold fn_X1_lambda_allot_8
  refine rk_of (fun _ _ _ _ _ k => lr_aload_n hx hb dX1_lambda_allot_8_0 rfl (lv_at hl 0 rfl) k) ?_
  refine rk_callI hX (cl_V (rest := []) (av := []) C (hc_X2 H) (ct_X2_allots H a0) (lw_V q1731 q1732 q1733 q102 q1734) ⟨rfl, hd_X2_allots⟩ ⟨(Nat.le_of_ble_eq_true rfl), (Nat.le_of_ble_eq_true rfl)⟩ rfl hl.1 rfl (zw_le zw_nil (Nat.le_of_ble_eq_true rfl)) dX1_lambda_allot_8_1) (fun v1 => ?_)
  exact rk_top (rf_iret C rfl dX1_lambda_allot_8_4)
theorem hd_X1_isSpan : yX1_isSpan.cls ≠ "java/lang/invoke/MethodHandle" ∧ yX1_isSpan.cls ≠ "java/lang/invoke/VarHandle" ∧ (parseMethodDescriptor yX1_isSpan.desc).map (fun d => d.parameters.length) = some 2 := by decide +kernel
noncomputable def fn_X1_isSpan (K : zm_K) (a0 : Int32) (a1 : Int32) : zm_M Int32 :=
  zm_bnd (fn_X1_isIn K a0 0 599) fun v5 =>
  if v5 = 0 then
    zm_ret 0
  else
    zm_bnd (fn_X1_isIn K a1 (a0 + 1) 600) fun v18 =>
    if v18 = 0 then
      zm_ret 0
    else
      zm_ret 1
theorem ct_X1_isSpan {l : Launch} {Ω : zm_W} {K : zm_K} (H : zm_H Ω K) (a0 : Int32) (a1 : Int32) : zm_Ct l Ω yX1_isSpan (ws_ yX1_isSpan cX1_isSpan 2 (Option.some Jvm.ClassFile.FieldType.boolean)) 2 86 [.int a0, .int a1] zm_tvI (fn_X1_isSpan K a0 a1) := by
  refine zm_ct H.1 (by decide +kernel) (zl_le (zl_I (zl_I zl_nil)) (Nat.le_of_ble_eq_true rfl)) ?_
  intro p e R s m args below meth c n0 k0 C hX ls hl
  have hx := C.1
  have hb := C.2.1
  simp only [zg_I, zg_nil] at hl
  have hl : lv_has ls 2 [(0, .int a0), (1, .int a1)] := hl
  refine rk_rf ?_
  unfold fn_X1_isSpan
  refine rk_of (fun _ _ _ _ _ k => lv_iload_n hx hb dX1_isSpan_0 rfl (lv_at hl 0 rfl) (lv_iconst (v := 0) hx hb dX1_isSpan_1 rfl (lv_sipush (v := 599) hx hb dX1_isSpan_2 rfl k))) ?_
  refine rk_callI hX (cl_S (rest := []) C (ct_X1_isIn H a0 0 599) (lw_S q1132 q1133 q101 q1134) hd_X1_isIn ⟨(Nat.le_of_ble_eq_true rfl), (Nat.le_of_ble_eq_true rfl)⟩ rfl hl.1 rfl (zw_le zw_nil (Nat.le_of_ble_eq_true rfl)) dX1_isSpan_5) (fun v5 => ?_)
  refine rk_ite (fun _ _ _ _ _ k1 k2 => lv_if_eq (tgt := 28) hx hb dX1_isSpan_8 (by decide) k1 k2) (fun c_8 => ?_) (fun c_8 => ?_)
  · refine rk_of (fun _ _ _ _ _ k => lv_iconst (v := 0) hx hb dX1_isSpan_28 rfl k) ?_
    exact rk_top (rf_iret C rfl dX1_isSpan_29)
  · refine rk_of (fun _ _ _ _ _ k => lv_iload_n hx hb dX1_isSpan_11 rfl (lv_at hl 1 rfl) (lv_iload_n hx hb dX1_isSpan_12 rfl (lv_at hl 0 rfl) (lv_iconst (v := 1) hx hb dX1_isSpan_13 rfl (lv_iadd hx hb dX1_isSpan_14 (lv_sipush (v := 600) hx hb dX1_isSpan_15 rfl k))))) ?_
    refine rk_callI hX (cl_S (rest := []) C (ct_X1_isIn H a1 (a0 + 1) 600) (lw_S q1132 q1133 q101 q1134) hd_X1_isIn ⟨(Nat.le_of_ble_eq_true rfl), (Nat.le_of_ble_eq_true rfl)⟩ rfl hl.1 rfl (zw_le zw_nil (Nat.le_of_ble_eq_true rfl)) dX1_isSpan_18) (fun v18 => ?_)
    refine rk_ite (fun _ _ _ _ _ k1 k2 => lv_if_eq (tgt := 28) hx hb dX1_isSpan_21 (by decide) k1 k2) (fun c_21 => ?_) (fun c_21 => ?_)
    · refine rk_of (fun _ _ _ _ _ k => lv_iconst (v := 0) hx hb dX1_isSpan_28 rfl k) ?_
      exact rk_top (rf_iret C rfl dX1_isSpan_29)
    · refine rk_of (fun _ _ _ _ _ k => lv_iconst (v := 1) hx hb dX1_isSpan_24 rfl (lv_goto (tgt := 29) hx hb dX1_isSpan_25 (by decide) k)) ?_
      exact rk_top (rf_iret C rfl dX1_isSpan_29)
end
