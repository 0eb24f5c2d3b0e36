/-! what the law reaches, 1 -/
section
variable {p : Program} {l : Launch} {e : Env} {R : Room} {s : State} {m : MethodId} {args : Array Value} {below : List Frame} {meth : Method} {c : Code} {Ω : zm_W} {K : zm_K} {n0 k0 : Nat}
theorem hd_J2_elementData : yJ2_elementData.cls ≠ "java/lang/invoke/MethodHandle" ∧ yJ2_elementData.cls ≠ "java/lang/invoke/VarHandle" ∧ (parseMethodDescriptor yJ2_elementData.desc).map (fun d => d.parameters.length) = some 1 := by decide +kernel
noncomputable def fn_J2_elementData (K : zm_K) (a0 : zm_R) (a1 : Int32) : zm_M zm_R :=
  zm_bnd (zm_getR a0 0 1) fun v1 =>
  zm_bnd (zm_aldR v1 a1) fun v5 =>
  zm_ret v5
theorem ct_J2_elementData {l : Launch} {Ω : zm_W} {K : zm_K} (H : zm_H Ω K) (a0 : zm_R) (a1 : Int32) : zm_Ct l Ω yJ2_elementData (ws_ yJ2_elementData cJ2_elementData 2 (Option.some (Jvm.ClassFile.FieldType.object "java/lang/Object"))) 1 64 [va_rf a0, .int a1] zm_tvR (fn_J2_elementData K a0 a1) := by
  refine zm_ct H.1 (by decide +kernel) (zl_le (zl_R (zl_I zl_nil)) (Nat.le_of_ble_eq_true rfl)) ?_
  intro p e R s m args below meth c n0 k0 C hX ls hl
  have hx := C.1
  have hb := C.2.1
  simp only [zg_I, zg_R, zg_nil] at hl
  have hl : lv_has ls 2 [(0, va_rf a0), (1, .int a1)] := hl
  refine rk_rf ?_
  unfold fn_J2_elementData
  refine rk_of (fun _ _ _ _ _ k => lr_aload_n hx hb dJ2_elementData_0 rfl (lv_at hl 0 rfl) k) ?_
  refine rk_get zm_rdR_eq C (hc_J2 H) (k := 1) (Nat.le_of_ble_eq_true rfl) in_J2 q178 (fun _ h => h) dJ2_elementData_1 (fun v1 => ?_)
  refine rk_of (fun _ _ _ _ _ k => lv_iload_n hx hb dJ2_elementData_4 rfl (lv_at hl 1 rfl) k) ?_
  refine rk_aald C dJ2_elementData_5 (fun v5 => ?_)
  exact rk_top (rf_aret C (Or.inl ⟨_, rfl⟩) dJ2_elementData_6)
theorem hd_J2_get : yJ2_get.cls ≠ "java/lang/invoke/MethodHandle" ∧ yJ2_get.cls ≠ "java/lang/invoke/VarHandle" ∧ (parseMethodDescriptor yJ2_get.desc).map (fun d => d.parameters.length) = some 1 := by decide +kernel
noncomputable def fn_J2_get (K : zm_K) (a0 : zm_R) (a1 : Int32) : zm_M zm_R :=
  zm_bnd (zm_getI a0 0 2) fun v2 =>
  zm_bnd (fn_J27_checkIndex K a1 v2) fun v5 =>
  zm_bnd (zm_bnd (zm_is a0 0) fun _ => fn_J2_elementData K a0 a1) fun v11 =>
  zm_ret v11
theorem ct_J2_get {l : Launch} {Ω : zm_W} {K : zm_K} (H : zm_H Ω K) (a0 : zm_R) (a1 : Int32) : zm_Ct l Ω yJ2_get (ws_ yJ2_get cJ2_get 2 (Option.some (Jvm.ClassFile.FieldType.object "java/lang/Object"))) 3 107 [va_rf a0, .int a1] zm_tvR (fn_J2_get K a0 a1) := by
  refine zm_ct H.1 (by decide +kernel) (zl_le (zl_R (zl_I zl_nil)) (Nat.le_of_ble_eq_true rfl)) ?_
  intro p e R s m args below meth c n0 k0 C hX ls hl
  have hx := C.1
  have hb := C.2.1
  simp only [zg_I, zg_R, zg_nil] at hl
  have hl : lv_has ls 2 [(0, va_rf a0), (1, .int a1)] := hl
  refine rk_rf ?_
  unfold fn_J2_get
  refine rk_of (fun _ _ _ _ _ k => lv_iload_n hx hb dJ2_get_0 rfl (lv_at hl 1 rfl) (lr_aload_n hx hb dJ2_get_1 rfl (lv_at hl 0 rfl) k)) ?_
  refine rk_get zm_rdI_eq C (hc_J2 H) (k := 2) (Nat.le_of_ble_eq_true rfl) in_J2 q181 (fun _ h => h) dJ2_get_2 (fun v2 => ?_)
  refine rk_callI hX (cl_S (rest := []) C (ct_J27_checkIndex H a1 v2) (lw_S q849 q850 q136 q851) hd_J27_checkIndex ⟨(Nat.le_of_ble_eq_true rfl), (Nat.le_of_ble_eq_true rfl)⟩ rfl hl.1 rfl (zw_le zw_nil (Nat.le_of_ble_eq_true rfl)) dJ2_get_5) (fun v5 => ?_)
  refine rk_of (fun _ _ _ _ _ k => lv_pop hx hb dJ2_get_8 rfl (lr_aload_n hx hb dJ2_get_9 rfl (lv_at hl 0 rfl) (lv_iload_n hx hb dJ2_get_10 rfl (lv_at hl 1 rfl) k))) ?_
  refine rk_callR hX (cl_V (rest := []) (av := [.int a1]) C (hc_J2 H) (ct_J2_elementData H a0 a1) (lw_V q855 q856 q857 q105 q858) ⟨rfl, hd_J2_elementData⟩ ⟨(Nat.le_of_ble_eq_true rfl), (Nat.le_of_ble_eq_true rfl)⟩ rfl hl.1 rfl (zw_le zw_nil (Nat.le_of_ble_eq_true rfl)) dJ2_get_11) (fun v11 => ?_)
  exact rk_top (rf_aret C (Or.inl ⟨_, rfl⟩) dJ2_get_14)
theorem hd_J4_isElementIndex : yJ4_isElementIndex.cls ≠ "java/lang/invoke/MethodHandle" ∧ yJ4_isElementIndex.cls ≠ "java/lang/invoke/VarHandle" ∧ (parseMethodDescriptor yJ4_isElementIndex.desc).map (fun d => d.parameters.length) = some 1 := by decide +kernel
noncomputable def fn_J4_isElementIndex (K : zm_K) (a0 : zm_R) (a1 : Int32) : zm_M Int32 :=
  if a1 < 0 then
    zm_ret 0
  else
    zm_bnd (zm_getI a0 1 1) fun v6 =>
    if v6 ≤ a1 then
      zm_ret 0
    else
      zm_ret 1
theorem ct_J4_isElementIndex {l : Launch} {Ω : zm_W} {K : zm_K} (H : zm_H Ω K) (a0 : zm_R) (a1 : Int32) : zm_Ct l Ω yJ4_isElementIndex (ws_ yJ4_isElementIndex cJ4_isElementIndex 2 (Option.some Jvm.ClassFile.FieldType.boolean)) 1 64 [va_rf a0, .int a1] zm_tvI (fn_J4_isElementIndex K a0 a1) := by
  refine zm_ct H.1 (by decide +kernel) (zl_le (zl_R (zl_I zl_nil)) (Nat.le_of_ble_eq_true rfl)) ?_
  intro p e R s m args below meth c n0 k0 C hX ls hl
  have hx := C.1
  have hb := C.2.1
  simp only [zg_I, zg_R, zg_nil] at hl
  have hl : lv_has ls 2 [(0, va_rf a0), (1, .int a1)] := hl
  refine rk_rf ?_
  unfold fn_J4_isElementIndex
  refine rk_ite (fun _ _ _ _ _ k1 k2 => lv_iload_n hx hb dJ4_isElementIndex_0 rfl (lv_at hl 1 rfl) (lv_if_lt (tgt := 16) hx hb dJ4_isElementIndex_1 (by decide) k1 k2)) (fun c_1 => ?_) (fun c_1 => ?_)
  · refine rk_of (fun _ _ _ _ _ k => lv_iconst (v := 0) hx hb dJ4_isElementIndex_16 rfl k) ?_
    exact rk_top (rf_iret C rfl dJ4_isElementIndex_17)
  · refine rk_of (fun _ _ _ _ _ k => lv_iload_n hx hb dJ4_isElementIndex_4 rfl (lv_at hl 1 rfl) (lr_aload_n hx hb dJ4_isElementIndex_5 rfl (lv_at hl 0 rfl) k)) ?_
    refine rk_get zm_rdI_eq C (hc_J4 H) (k := 1) (Nat.le_of_ble_eq_true rfl) in_J4 q225 (fun _ h => h) dJ4_isElementIndex_6 (fun v6 => ?_)
    refine rk_ite (fun _ _ _ _ _ k1 k2 => lv_icmp_ge (tgt := 16) hx hb dJ4_isElementIndex_9 (by decide) k1 k2) (fun c_9 => ?_) (fun c_9 => ?_)
    · refine rk_of (fun _ _ _ _ _ k => lv_iconst (v := 0) hx hb dJ4_isElementIndex_16 rfl k) ?_
      exact rk_top (rf_iret C rfl dJ4_isElementIndex_17)
    · refine rk_of (fun _ _ _ _ _ k => lv_iconst (v := 1) hx hb dJ4_isElementIndex_12 rfl (lv_goto (tgt := 17) hx hb dJ4_isElementIndex_13 (by decide) k)) ?_
      exact rk_top (rf_iret C rfl dJ4_isElementIndex_17)
theorem hd_J4_checkElementIndex : yJ4_checkElementIndex.cls ≠ "java/lang/invoke/MethodHandle" ∧ yJ4_checkElementIndex.cls ≠ "java/lang/invoke/VarHandle" ∧ (parseMethodDescriptor yJ4_checkElementIndex.desc).map (fun d => d.parameters.length) = some 1 := by decide +kernel
noncomputable def fn_J4_checkElementIndex (K : zm_K) (a0 : zm_R) (a1 : Int32) : zm_M Unit :=
  zm_bnd (zm_bnd (zm_is a0 1) fun _ => fn_J4_isElementIndex K a0 a1) fun v2 =>
  if v2 = 0 then
    zm_bnd (zm_new 8 [.null, .null, .null, .null, .null, .int 0]) fun v8 =>
    zm_fl
  else
    zm_ret ()
theorem ct_J4_checkElementIndex {l : Launch} {Ω : zm_W} {K : zm_K} (H : zm_H Ω K) (a0 : zm_R) (a1 : Int32) : zm_Ct l Ω yJ4_checkElementIndex (ws_ yJ4_checkElementIndex cJ4_checkElementIndex 2 (Option.none : Option Jvm.ClassFile.FieldType)) 8 212 [va_rf a0, .int a1] zm_tvV (fn_J4_checkElementIndex K a0 a1) := by
  refine zm_ct H.1 (by decide +kernel) (zl_le (zl_R (zl_I zl_nil)) (Nat.le_of_ble_eq_true rfl)) ?_
  intro p e R s m args below meth c n0 k0 C hX ls hl
  have hx := C.1
  have hb := C.2.1
  simp only [zg_I, zg_R, zg_nil] at hl
  have hl : lv_has ls 2 [(0, va_rf a0), (1, .int a1)] := hl
  refine rk_rf ?_
  unfold fn_J4_checkElementIndex
  refine rk_of (fun _ _ _ _ _ k => lr_aload_n hx hb dJ4_checkElementIndex_0 rfl (lv_at hl 0 rfl) (lv_iload_n hx hb dJ4_checkElementIndex_1 rfl (lv_at hl 1 rfl) k)) ?_
  refine rk_callI hX (cl_V (rest := []) (av := [.int a1]) C (hc_J4 H) (ct_J4_isElementIndex H a0 a1) (lw_V q866 q868 qs8 q107 q869) ⟨rfl, hd_J4_isElementIndex⟩ ⟨(Nat.le_of_ble_eq_true rfl), (Nat.le_of_ble_eq_true rfl)⟩ rfl hl.1 rfl (zw_le zw_nil (Nat.le_of_ble_eq_true rfl)) dJ4_checkElementIndex_2) (fun v2 => ?_)
  refine rk_ite (fun _ _ _ _ _ k1 k2 => lv_if_ne (tgt := 21) hx hb dJ4_checkElementIndex_5 (by decide) k2 k1) (fun c_5 => ?_) (fun c_5 => ?_)
  · refine rk_new C (hc_J19 H) in_J19 tyJ19_ok q692 q359 q126 (fs := [.null, .null, .null, .null, .null, .int 0]) rfl (fun j hj => zdf_J19 j hj) dJ4_checkElementIndex_8 (fun v8 => ?_)
    refine rk_of (fun _ _ _ _ _ k => lv_dup hx hb dJ4_checkElementIndex_11 (va_rf_cat _) (lr_aload_n hx hb dJ4_checkElementIndex_12 rfl (lv_at hl 0 rfl) (lv_iload_n hx hb dJ4_checkElementIndex_13 rfl (lv_at hl 1 rfl) k))) ?_
    exact rk_fl
  · exact rk_top (rf_vret C dJ4_checkElementIndex_21)
theorem hd_J4_get : yJ4_get.cls ≠ "java/lang/invoke/MethodHandle" ∧ yJ4_get.cls ≠ "java/lang/invoke/VarHandle" ∧ (parseMethodDescriptor yJ4_get.desc).map (fun d => d.parameters.length) = some 1 := by decide +kernel
noncomputable def fn_J4_get (K : zm_K) (a0 : zm_R) (a1 : Int32) : zm_M zm_R :=
  zm_bnd (zm_bnd (zm_is a0 1) fun _ => fn_J4_checkElementIndex K a0 a1) fun _ =>
  zm_bnd (zm_bnd (zm_is a0 1) fun _ => fn_J4_node K a0 a1) fun v7 =>
  zm_bnd (zm_getR v7 7 0) fun v10 =>
  zm_ret v10
theorem ct_J4_get {l : Launch} {Ω : zm_W} {K : zm_K} (H : zm_H Ω K) (a0 : zm_R) (a1 : Int32) : zm_Ct l Ω yJ4_get (ws_ yJ4_get cJ4_get 2 (Option.some (Jvm.ClassFile.FieldType.object "java/lang/Object"))) 9 233 [va_rf a0, .int a1] zm_tvR (fn_J4_get K a0 a1) := by
  refine zm_ct H.1 (by decide +kernel) (zl_le (zl_R (zl_I zl_nil)) (Nat.le_of_ble_eq_true rfl)) ?_
  intro p e R s m args below meth c n0 k0 C hX ls hl
  have hx := C.1
  have hb := C.2.1
  simp only [zg_I, zg_R, zg_nil] at hl
  have hl : lv_has ls 2 [(0, va_rf a0), (1, .int a1)] := hl
  refine rk_rf ?_
  unfold fn_J4_get
  refine rk_of (fun _ _ _ _ _ k => lr_aload_n hx hb dJ4_get_0 rfl (lv_at hl 0 rfl) (lv_iload_n hx hb dJ4_get_1 rfl (lv_at hl 1 rfl) k)) ?_
  refine rk_callV hX (cl_V (rest := []) (av := [.int a1]) C (hc_J4 H) (ct_J4_checkElementIndex H a0 a1) (lw_V q862 q864 qs7 q107 q865) ⟨rfl, hd_J4_checkElementIndex⟩ ⟨(Nat.le_of_ble_eq_true rfl), (Nat.le_of_ble_eq_true rfl)⟩ rfl hl.1 rfl (zw_le zw_nil (Nat.le_of_ble_eq_true rfl)) dJ4_get_2) (fun _ => ?_)
  refine rk_of (fun _ _ _ _ _ k => lr_aload_n hx hb dJ4_get_5 rfl (lv_at hl 0 rfl) (lv_iload_n hx hb dJ4_get_6 rfl (lv_at hl 1 rfl) k)) ?_
  refine rk_callR hX (cl_V (rest := []) (av := [.int a1]) C (hc_J4 H) (ct_J4_node H a0 a1) (lw_V q870 q712 q713 q107 q714) ⟨rfl, hd_J4_node⟩ ⟨(Nat.le_of_ble_eq_true rfl), (Nat.le_of_ble_eq_true rfl)⟩ rfl hl.1 rfl (zw_le zw_nil (Nat.le_of_ble_eq_true rfl)) dJ4_get_7) (fun v7 => ?_)
  refine rk_get zm_rdR_eq C (hc_J18 H) (k := 0) (Nat.le_of_ble_eq_true rfl) in_J18 q1249 (fun _ h => h) dJ4_get_10 (fun v10 => ?_)
  exact rk_top (rf_aret C (Or.inl ⟨_, rfl⟩) dJ4_get_13)
theorem hd_J9_getMessage : yJ9_getMessage.cls ≠ "java/lang/invoke/MethodHandle" ∧ yJ9_getMessage.cls ≠ "java/lang/invoke/VarHandle" ∧ (parseMethodDescriptor yJ9_getMessage.desc).map (fun d => d.parameters.length) = some 0 := by decide +kernel
noncomputable def fn_J9_getMessage (K : zm_K) (a0 : zm_R) : zm_M zm_R :=
  zm_bnd (zm_tb a0 [(5, 3), (8, 3), (12, 3), (13, 3), (14, 1), (15, 3), (16, 1), (17, 1), (21, 3), (28, 3)] fun ci k => zm_getR a0 ci k) fun v1 =>
  zm_ret v1
theorem ct_J9_getMessage {l : Launch} {Ω : zm_W} {K : zm_K} (H : zm_H Ω K) (a0 : zm_R) : zm_Ct l Ω yJ9_getMessage (ws_ yJ9_getMessage cJ9_getMessage 1 (Option.some (Jvm.ClassFile.FieldType.object "java/lang/String"))) 4 128 [va_rf a0] zm_tvR (fn_J9_getMessage K a0) := by
  refine zm_ct H.1 (by decide +kernel) (zl_le (zl_R zl_nil) (Nat.le_of_ble_eq_true rfl)) ?_
  intro p e R s m args below meth c n0 k0 C hX ls hl
  have hx := C.1
  have hb := C.2.1
  simp only [zg_R, zg_nil] at hl
  have hl : lv_has ls 1 [(0, va_rf a0)] := hl
  refine rk_rf ?_
  unfold fn_J9_getMessage
  refine rk_of (fun _ _ _ _ _ k => lr_aload_n hx hb dJ9_getMessage_0 rfl (lv_at hl 0 rfl) k) ?_
  refine rk_getT zm_rdR_eq C (tb_cons ⟨_, _, _, tyJ12, hc_J12 H, (Nat.le_of_ble_eq_true rfl), in_J12, tyJ12_ok, nmJ12, rfl, rfl⟩ (tb_cons ⟨_, _, _, tyJ19, hc_J19 H, (Nat.le_of_ble_eq_true rfl), in_J19, tyJ19_ok, nmJ19, rfl, rfl⟩ (tb_cons ⟨_, _, _, tyJ26, hc_J26 H, (Nat.le_of_ble_eq_true rfl), in_J26, tyJ26_ok, nmJ26, rfl, rfl⟩ (tb_cons ⟨_, _, _, tyJ28, hc_J28 H, (Nat.le_of_ble_eq_true rfl), in_J28, tyJ28_ok, nmJ28, rfl, rfl⟩ (tb_cons ⟨_, _, _, tyJ29, hc_J29 H, (Nat.le_of_ble_eq_true rfl), in_J29, tyJ29_ok, nmJ29, rfl, rfl⟩ (tb_cons ⟨_, _, _, tyJ30, hc_J30 H, (Nat.le_of_ble_eq_true rfl), in_J30, tyJ30_ok, nmJ30, rfl, rfl⟩ (tb_cons ⟨_, _, _, tyJ31, hc_J31 H, (Nat.le_of_ble_eq_true rfl), in_J31, tyJ31_ok, nmJ31, rfl, rfl⟩ (tb_cons ⟨_, _, _, tyJ32, hc_J32 H, (Nat.le_of_ble_eq_true rfl), in_J32, tyJ32_ok, nmJ32, rfl, rfl⟩ (tb_cons ⟨_, _, _, tyX4, hc_X4 H, (Nat.le_of_ble_eq_true rfl), in_X4, tyX4_ok, nmX4, rfl, rfl⟩ (tb_cons ⟨_, _, _, tyX12, hc_X12 H, (Nat.le_of_ble_eq_true rfl), in_X12, tyX12_ok, nmX12, rfl, rfl⟩ (tb_nil))))))))))) q623 dJ9_getMessage_1 (fun v1 => ?_)
  exact rk_top (rf_aret C (Or.inl ⟨_, rfl⟩) dJ9_getMessage_4)
theorem hd_J9_getLocalizedMessage : yJ9_getLocalizedMessage.cls ≠ "java/lang/invoke/MethodHandle" ∧ yJ9_getLocalizedMessage.cls ≠ "java/lang/invoke/VarHandle" ∧ (parseMethodDescriptor yJ9_getLocalizedMessage.desc).map (fun d => d.parameters.length) = some 0 := by decide +kernel
noncomputable def fn_J9_getLocalizedMessage (K : zm_K) (a0 : zm_R) : zm_M zm_R :=
  zm_bnd (zm_bnd (zm_cls a0) fun ci => if ci = 21 then fn_J9_getMessage K a0 else if ci = 28 then fn_J9_getMessage K a0 else if ci = 17 then fn_J9_getMessage K a0 else if ci = 14 then fn_J9_getMessage K a0 else if ci = 5 then fn_J9_getMessage K a0 else if ci = 15 then fn_J9_getMessage K a0 else if ci = 8 then fn_J9_getMessage K a0 else if ci = 16 then fn_J9_getMessage K a0 else if ci = 13 then fn_J9_getMessage K a0 else if ci = 12 then fn_J9_getMessage K a0 else zm_fl) fun v1 =>
  zm_ret v1
theorem ct_J9_getLocalizedMessage {l : Launch} {Ω : zm_W} {K : zm_K} (H : zm_H Ω K) (a0 : zm_R) : zm_Ct l Ω yJ9_getLocalizedMessage (ws_ yJ9_getLocalizedMessage cJ9_getLocalizedMessage 1 (Option.some (Jvm.ClassFile.FieldType.object "java/lang/String"))) 5 148 [va_rf a0] zm_tvR (fn_J9_getLocalizedMessage K a0) := by
  refine zm_ct H.1 (by decide +kernel) (zl_le (zl_R zl_nil) (Nat.le_of_ble_eq_true rfl)) ?_
  intro p e R s m args below meth c n0 k0 C hX ls hl
  have hx := C.1
  have hb := C.2.1
  simp only [zg_R, zg_nil] at hl
  have hl : lv_has ls 1 [(0, va_rf a0)] := hl
  refine rk_rf ?_
  unfold fn_J9_getLocalizedMessage
  refine rk_of (fun _ _ _ _ _ k => lr_aload_n hx hb dJ9_getLocalizedMessage_0 rfl (lv_at hl 0 rfl) k) ?_
  refine rk_callR hX (cl_dsp (fun ci => cl_case (cl_U (n := 0) (rest := []) (av := []) C (hc_X4 H) (ct_J9_getMessage H a0) (lw_meth q960) q113 q947 (C.2.2.2.1 _ q949) (va_Decl.of (C.2.2.2.1 _ q948) (C.2.2.2.1 _ q960)) (C.2.2.2.1 _ q950) q948 (by decide +kernel) ⟨(Nat.le_of_ble_eq_true rfl), (Nat.le_of_ble_eq_true rfl)⟩ rfl hl.1 rfl (zw_le zw_nil (Nat.le_of_ble_eq_true rfl)) dJ9_getLocalizedMessage_1) (cl_case (cl_U (n := 0) (rest := []) (av := []) C (hc_X12 H) (ct_J9_getMessage H a0) (lw_meth q960) q113 q947 (C.2.2.2.1 _ q949) (va_Decl.of (C.2.2.2.1 _ q948) (C.2.2.2.1 _ q960)) (C.2.2.2.1 _ q951) q948 (by decide +kernel) ⟨(Nat.le_of_ble_eq_true rfl), (Nat.le_of_ble_eq_true rfl)⟩ rfl hl.1 rfl (zw_le zw_nil (Nat.le_of_ble_eq_true rfl)) dJ9_getLocalizedMessage_1) (cl_case (cl_U (n := 0) (rest := []) (av := []) C (hc_J32 H) (ct_J9_getMessage H a0) (lw_meth q960) q113 q947 (C.2.2.2.1 _ q949) (va_Decl.of (C.2.2.2.1 _ q948) (C.2.2.2.1 _ q960)) (C.2.2.2.1 _ q952) q948 (by decide +kernel) ⟨(Nat.le_of_ble_eq_true rfl), (Nat.le_of_ble_eq_true rfl)⟩ rfl hl.1 rfl (zw_le zw_nil (Nat.le_of_ble_eq_true rfl)) dJ9_getLocalizedMessage_1) (cl_case (cl_U (n := 0) (rest := []) (av := []) C (hc_J29 H) (ct_J9_getMessage H a0) (lw_meth q960) q113 q947 (C.2.2.2.1 _ q949) (va_Decl.of (C.2.2.2.1 _ q948) (C.2.2.2.1 _ q960)) (C.2.2.2.1 _ q953) q948 (by decide +kernel) ⟨(Nat.le_of_ble_eq_true rfl), (Nat.le_of_ble_eq_true rfl)⟩ rfl hl.1 rfl (zw_le zw_nil (Nat.le_of_ble_eq_true rfl)) dJ9_getLocalizedMessage_1) (cl_case (cl_U (n := 0) (rest := []) (av := []) C (hc_J12 H) (ct_J9_getMessage H a0) (lw_meth q960) q113 q947 (C.2.2.2.1 _ q949) (va_Decl.of (C.2.2.2.1 _ q948) (C.2.2.2.1 _ q960)) (C.2.2.2.1 _ q954) q948 (by decide +kernel) ⟨(Nat.le_of_ble_eq_true rfl), (Nat.le_of_ble_eq_true rfl)⟩ rfl hl.1 rfl (zw_le zw_nil (Nat.le_of_ble_eq_true rfl)) dJ9_getLocalizedMessage_1) (cl_case (cl_U (n := 0) (rest := []) (av := []) C (hc_J30 H) (ct_J9_getMessage H a0) (lw_meth q960) q113 q947 (C.2.2.2.1 _ q949) (va_Decl.of (C.2.2.2.1 _ q948) (C.2.2.2.1 _ q960)) (C.2.2.2.1 _ q955) q948 (by decide +kernel) ⟨(Nat.le_of_ble_eq_true rfl), (Nat.le_of_ble_eq_true rfl)⟩ rfl hl.1 rfl (zw_le zw_nil (Nat.le_of_ble_eq_true rfl)) dJ9_getLocalizedMessage_1) (cl_case (cl_U (n := 0) (rest := []) (av := []) C (hc_J19 H) (ct_J9_getMessage H a0) (lw_meth q960) q113 q947 (C.2.2.2.1 _ q949) (va_Decl.of (C.2.2.2.1 _ q948) (C.2.2.2.1 _ q960)) (C.2.2.2.1 _ q956) q948 (by decide +kernel) ⟨(Nat.le_of_ble_eq_true rfl), (Nat.le_of_ble_eq_true rfl)⟩ rfl hl.1 rfl (zw_le zw_nil (Nat.le_of_ble_eq_true rfl)) dJ9_getLocalizedMessage_1) (cl_case (cl_U (n := 0) (rest := []) (av := []) C (hc_J31 H) (ct_J9_getMessage H a0) (lw_meth q960) q113 q947 (C.2.2.2.1 _ q949) (va_Decl.of (C.2.2.2.1 _ q948) (C.2.2.2.1 _ q960)) (C.2.2.2.1 _ q957) q948 (by decide +kernel) ⟨(Nat.le_of_ble_eq_true rfl), (Nat.le_of_ble_eq_true rfl)⟩ rfl hl.1 rfl (zw_le zw_nil (Nat.le_of_ble_eq_true rfl)) dJ9_getLocalizedMessage_1) (cl_case (cl_U (n := 0) (rest := []) (av := []) C (hc_J28 H) (ct_J9_getMessage H a0) (lw_meth q960) q113 q947 (C.2.2.2.1 _ q949) (va_Decl.of (C.2.2.2.1 _ q948) (C.2.2.2.1 _ q960)) (C.2.2.2.1 _ q958) q948 (by decide +kernel) ⟨(Nat.le_of_ble_eq_true rfl), (Nat.le_of_ble_eq_true rfl)⟩ rfl hl.1 rfl (zw_le zw_nil (Nat.le_of_ble_eq_true rfl)) dJ9_getLocalizedMessage_1) (cl_case (cl_U (n := 0) (rest := []) (av := []) C (hc_J26 H) (ct_J9_getMessage H a0) (lw_meth q960) q113 q947 (C.2.2.2.1 _ q949) (va_Decl.of (C.2.2.2.1 _ q948) (C.2.2.2.1 _ q960)) (C.2.2.2.1 _ q959) q948 (by decide +kernel) ⟨(Nat.le_of_ble_eq_true rfl), (Nat.le_of_ble_eq_true rfl)⟩ rfl hl.1 rfl (zw_le zw_nil (Nat.le_of_ble_eq_true rfl)) dJ9_getLocalizedMessage_1) (cl_fl)))))))))))) (fun v1 => ?_)
  exact rk_top (rf_aret C (Or.inl ⟨_, rfl⟩) dJ9_getLocalizedMessage_4)
theorem hd_J5_newCapacity : yJ5_newCapacity.cls ≠ "java/lang/invoke/MethodHandle" ∧ yJ5_newCapacity.cls ≠ "java/lang/invoke/VarHandle" ∧ (parseMethodDescriptor yJ5_newCapacity.desc).map (fun d => d.parameters.length) = some 1 := by decide +kernel
noncomputable def fn_J5_newCapacity (K : zm_K) (a0 : zm_R) (a1 : Int32) : zm_M Int32 :=
  zm_bnd (zm_getR a0 2 0) fun v1 =>
  zm_bnd (zm_alen v1) fun v4 =>
  zm_bnd (zm_getI a0 2 1) fun v8 =>
  zm_bnd (zm_getI a0 2 1) fun v24 =>
  zm_bnd (fn_J15_newLength K v4 ((a1 <<< (v8 &&& 31)) - v4) (v4 + (2 <<< (v24 &&& 31)))) fun v29 =>
  if v29 = 2147483647 then
    zm_fl
  else
    zm_bnd (zm_getI a0 2 1) fun v54 =>
    zm_ret (v29 >>> (v54 &&& 31))
theorem ct_J5_newCapacity {l : Launch} {Ω : zm_W} {K : zm_K} (H : zm_H Ω K) (a0 : zm_R) (a1 : Int32) : zm_Ct l Ω yJ5_newCapacity (ws_ yJ5_newCapacity cJ5_newCapacity 6 (Option.some Jvm.ClassFile.FieldType.int)) 5 151 [va_rf a0, .int a1] zm_tvI (fn_J5_newCapacity K a0 a1) := by
  refine zm_ct H.1 (by decide +kernel) (zl_le (zl_R (zl_I zl_nil)) (Nat.le_of_ble_eq_true rfl)) ?_
  intro p e R s m args below meth c n0 k0 C hX ls hl
  have hx := C.1
  have hb := C.2.1
  simp only [zg_I, zg_R, zg_nil] at hl
  have hl : lv_has ls 6 [(0, va_rf a0), (1, .int a1)] := hl
  refine rk_rf ?_
  unfold fn_J5_newCapacity
  refine rk_of (fun _ _ _ _ _ k => lr_aload_n hx hb dJ5_newCapacity_0 rfl (lv_at hl 0 rfl) k) ?_
  refine rk_get zm_rdR_eq C (hc_J6 H) (k := 0) (Nat.le_of_ble_eq_true rfl) in_J6 q255 (fun _ h => h) dJ5_newCapacity_1 (fun v1 => ?_)
  refine rk_alen C dJ5_newCapacity_4 (fun v4 => ?_)
  refine rk_ofs (fun _ _ _ _ _ k => lr_istore_n hx hb dJ5_newCapacity_5 rfl hl (Nat.le_of_ble_eq_true rfl) [0, 1] rfl ⟨trivial, ⟨rfl, trivial⟩⟩ k) (fun ls hl => ?_)
  refine rk_of (fun _ _ _ _ _ k => lv_iload_n hx hb dJ5_newCapacity_6 rfl (lv_at hl 2 rfl) (lr_aload_n hx hb dJ5_newCapacity_7 rfl (lv_at hl 1 rfl) k)) ?_
  refine rk_get zm_rdI_eq C (hc_J6 H) (k := 1) (Nat.le_of_ble_eq_true rfl) in_J6 q256 (fun _ h => h) dJ5_newCapacity_8 (fun v8 => ?_)
  refine rk_ofs (fun _ _ _ _ _ k => lv_ishl hx hb dJ5_newCapacity_11 (lr_istore_n hx hb dJ5_newCapacity_12 rfl hl (Nat.le_of_ble_eq_true rfl) [0, 1] rfl ⟨rfl, ⟨trivial, trivial⟩⟩ k)) (fun ls hl => ?_)
  refine rk_ofs (fun _ _ _ _ _ k => lv_iload_n hx hb dJ5_newCapacity_13 rfl (lv_at hl 0 rfl) (lv_iload_n hx hb dJ5_newCapacity_14 rfl (lv_at hl 1 rfl) (lv_isub hx hb dJ5_newCapacity_15 (lr_istore hx hb dJ5_newCapacity_16 hl (Nat.le_of_ble_eq_true rfl) [1, 2] rfl ⟨trivial, ⟨trivial, trivial⟩⟩ k)))) (fun ls hl => ?_)
  refine rk_of (fun _ _ _ _ _ k => lv_iload_n hx hb dJ5_newCapacity_18 rfl (lv_at hl 1 rfl) (lv_iload hx hb dJ5_newCapacity_19 (lv_at hl 0 rfl) (lv_iload_n hx hb dJ5_newCapacity_21 rfl (lv_at hl 1 rfl) (lv_iconst (v := 2) hx hb dJ5_newCapacity_22 rfl (lr_aload_n hx hb dJ5_newCapacity_23 rfl (lv_at hl 2 rfl) k))))) ?_
  refine rk_get zm_rdI_eq C (hc_J6 H) (k := 1) (Nat.le_of_ble_eq_true rfl) in_J6 q256 (fun _ h => h) dJ5_newCapacity_24 (fun v24 => ?_)
  refine rk_of (fun _ _ _ _ _ k => lv_ishl hx hb dJ5_newCapacity_27 (lv_iadd hx hb dJ5_newCapacity_28 k)) ?_
  refine rk_callI hX (cl_S (rest := []) C (ct_J15_newLength H v4 ((a1 <<< (v8 &&& 31)) - v4) (v4 + (2 <<< (v24 &&& 31)))) (lw_S q432 q433 q121 q434) hd_J15_newLength ⟨(Nat.le_of_ble_eq_true rfl), (Nat.le_of_ble_eq_true rfl)⟩ rfl hl.1 rfl (zw_le zw_nil (Nat.le_of_ble_eq_true rfl)) dJ5_newCapacity_29) (fun v29 => ?_)
  refine rk_ofs (fun _ _ _ _ _ k => lr_istore hx hb dJ5_newCapacity_32 hl (Nat.le_of_ble_eq_true rfl) [2] rfl ⟨trivial, trivial⟩ k) (fun ls hl => ?_)
  refine rk_ite (fun _ _ _ _ _ k1 k2 => lv_iload hx hb dJ5_newCapacity_34 (lv_at hl 0 rfl) (lv_ldc (v := 2147483647) hx hb C.2.2.1 (C.2.2.2.1 _ q442) dJ5_newCapacity_36 (lv_icmp_ne (tgt := 51) hx hb dJ5_newCapacity_38 (by decide) k2 k1))) (fun c_38 => ?_) (fun c_38 => ?_)
  · exact rk_fl
  · refine rk_of (fun _ _ _ _ _ k => lv_iload hx hb dJ5_newCapacity_51 (lv_at hl 0 rfl) (lr_aload_n hx hb dJ5_newCapacity_53 rfl (lv_at hl 1 rfl) k)) ?_
    refine rk_get zm_rdI_eq C (hc_J6 H) (k := 1) (Nat.le_of_ble_eq_true rfl) in_J6 q256 (fun _ h => h) dJ5_newCapacity_54 (fun v54 => ?_)
    refine rk_of (fun _ _ _ _ _ k => lv_ishr hx hb dJ5_newCapacity_57 k) ?_
    exact rk_top (rf_iret C rfl dJ5_newCapacity_58)
theorem hd_J17_copyOf : yJ17_copyOf.cls ≠ "java/lang/invoke/MethodHandle" ∧ yJ17_copyOf.cls ≠ "java/lang/invoke/VarHandle" ∧ (parseMethodDescriptor yJ17_copyOf.desc).map (fun d => d.parameters.length) = some 2 := by decide +kernel
noncomputable def fn_J17_copyOf (K : zm_K) (a0 : zm_R) (a1 : Int32) : zm_M zm_R :=
  zm_bnd (zm_alen a0) fun v2 =>
  if a1 = v2 then
    zm_bnd (zm_clnB a0) fun v7 =>
    zm_bnd (zm_chk [] [.byte] v7) fun _ =>
    zm_ret v7
  else
    zm_bnd (zm_newa .byte (.inl fun _ => 0) a1) fun v15 =>
    zm_bnd (zm_alen a0) fun v23 =>
    zm_bnd (zm_ret (if (a1 < v23 : Prop) then (a1 : Int32) else v23)) fun v25 =>
    zm_bnd (zm_cpB K a0 0 (some v15) 0 v25) fun _ =>
    zm_ret (some v15)
theorem ct_J17_copyOf {l : Launch} {Ω : zm_W} {K : zm_K} (H : zm_H Ω K) (a0 : zm_R) (a1 : Int32) : zm_Ct l Ω yJ17_copyOf (ws_ yJ17_copyOf cJ17_copyOf 3 (Option.some (Jvm.ClassFile.FieldType.array Jvm.ClassFile.FieldType.byte))) 4 128 [va_rf a0, .int a1] zm_tvR (fn_J17_copyOf K a0 a1) := by
  refine zm_ct H.1 (by decide +kernel) (zl_le (zl_R (zl_I zl_nil)) (Nat.le_of_ble_eq_true rfl)) ?_
  intro p e R s m args below meth c n0 k0 C hX ls hl
  have hx := C.1
  have hb := C.2.1
  simp only [zg_I, zg_R, zg_nil] at hl
  have hl : lv_has ls 3 [(0, va_rf a0), (1, .int a1)] := hl
  refine rk_rf ?_
  unfold fn_J17_copyOf
  refine rk_of (fun _ _ _ _ _ k => lv_iload_n hx hb dJ17_copyOf_0 rfl (lv_at hl 1 rfl) (lr_aload_n hx hb dJ17_copyOf_1 rfl (lv_at hl 0 rfl) k)) ?_
  refine rk_alen C dJ17_copyOf_2 (fun v2 => ?_)
  refine rk_ite (fun _ _ _ _ _ k1 k2 => lv_icmp_ne (tgt := 14) hx hb dJ17_copyOf_3 (by decide) k2 k1) (fun c_3 => ?_) (fun c_3 => ?_)
  · refine rk_of (fun _ _ _ _ _ k => lr_aload_n hx hb dJ17_copyOf_6 rfl (lv_at hl 0 rfl) k) ?_
    refine rk_clnB C hl.1 q446 (C.2.2.2.1 _ q447) q448 q449 (C.2.2.2.1 _ q450) (zn_wC H C q451) (Nat.le_of_ble_eq_true rfl) (zw_ad zw_nil (Nat.le_of_ble_eq_true rfl)) dJ17_copyOf_7 (fun v7 => ?_)
    refine rk_chk C q452 zc_nil (zp_cons (fun _ _ h => h) zp_nil) dJ17_copyOf_10 ?_
    exact rk_top (rf_aret C (Or.inr ⟨_, rfl⟩) dJ17_copyOf_13)
  · refine rk_of (fun _ _ _ _ _ k => lv_iload_n hx hb dJ17_copyOf_14 rfl (lv_at hl 1 rfl) k) ?_
    refine rk_newa C (atype := .byte) rfl 2 rfl (fun _ _ h => h) (fun _ _ => rfl) q269 dJ17_copyOf_15 (fun v15 => ?_)
    refine rk_ofs (fun _ _ _ _ _ k => lr_astore_n hx hb dJ17_copyOf_17 rfl hl (Nat.le_of_ble_eq_true rfl) [0, 1] rfl ⟨trivial, ⟨rfl, trivial⟩⟩ k) (fun ls hl => ?_)
    refine rk_of (fun _ _ _ _ _ k => lr_aload_n hx hb dJ17_copyOf_18 rfl (lv_at hl 1 rfl) (lv_iconst (v := 0) hx hb dJ17_copyOf_19 rfl (lr_aload_n hx hb dJ17_copyOf_20 rfl (lv_at hl 0 rfl) (lv_iconst (v := 0) hx hb dJ17_copyOf_21 rfl (lr_aload_n hx hb dJ17_copyOf_22 rfl (lv_at hl 1 rfl) k))))) ?_
    refine rk_alen C dJ17_copyOf_23 (fun v23 => ?_)
    refine rk_of (fun _ _ _ _ _ k => lv_iload_n hx hb dJ17_copyOf_24 rfl (lv_at hl 2 rfl) k) ?_
    refine rk_mmin C hl.1 q453 q454 q122 q455 (Nat.le_of_ble_eq_true rfl) (zw_ad (zw_I (zw_R (zw_I (zw_R zw_nil)))) (Nat.le_of_ble_eq_true rfl)) dJ17_copyOf_25 (fun v25 => ?_)
    refine rk_cpB C H.2.2.1 hl.1 q456 q458 q457 q124 (Nat.le_of_ble_eq_true rfl) (zw_ad zw_nil (Nat.le_of_ble_eq_true rfl)) dJ17_copyOf_28 ?_
    refine rk_of (fun _ _ _ _ _ k => lr_aload_n hx hb dJ17_copyOf_31 rfl (lv_at hl 0 rfl) k) ?_
    exact rk_top (rf_aret C (Or.inr ⟨_, rfl⟩) dJ17_copyOf_32)
theorem hd_J5_ensureCapacityInternal : yJ5_ensureCapacityInternal.cls ≠ "java/lang/invoke/MethodHandle" ∧ yJ5_ensureCapacityInternal.cls ≠ "java/lang/invoke/VarHandle" ∧ (parseMethodDescriptor yJ5_ensureCapacityInternal.desc).map (fun d => d.parameters.length) = some 1 := by decide +kernel
noncomputable def fn_J5_ensureCapacityInternal (K : zm_K) (a0 : zm_R) (a1 : Int32) : zm_M Unit :=
  zm_bnd (zm_getR a0 2 0) fun v1 =>
  zm_bnd (zm_alen v1) fun v4 =>
  zm_bnd (zm_getI a0 2 1) fun v6 =>
  if (a1 - (v4 >>> (v6 &&& 31))) ≤ 0 then
    zm_ret ()
  else
    zm_bnd (zm_getR a0 2 0) fun v19 =>
    zm_bnd (zm_bnd (zm_is a0 2) fun _ => fn_J5_newCapacity K a0 a1) fun v24 =>
    zm_bnd (zm_getI a0 2 1) fun v28 =>
    zm_bnd (fn_J17_copyOf K v19 (v24 <<< (v28 &&& 31))) fun v32 =>
    zm_bnd (zm_putF K a0 2 0 (va_rf v32)) fun _ =>
    zm_ret ()
theorem ct_J5_ensureCapacityInternal {l : Launch} {Ω : zm_W} {K : zm_K} (H : zm_H Ω K) (a0 : zm_R) (a1 : Int32) : zm_Ct l Ω yJ5_ensureCapacityInternal (ws_ yJ5_ensureCapacityInternal cJ5_ensureCapacityInternal 3 (Option.none : Option Jvm.ClassFile.FieldType)) 6 176 [va_rf a0, .int a1] zm_tvV (fn_J5_ensureCapacityInternal K a0 a1) := by
  refine zm_ct H.1 (by decide +kernel) (zl_le (zl_R (zl_I zl_nil)) (Nat.le_of_ble_eq_true rfl)) ?_
  intro p e R s m args below meth c n0 k0 C hX ls hl
  have hx := C.1
  have hb := C.2.1
  simp only [zg_I, zg_R, zg_nil] at hl
  have hl : lv_has ls 3 [(0, va_rf a0), (1, .int a1)] := hl
  refine rk_rf ?_
  unfold fn_J5_ensureCapacityInternal
  refine rk_of (fun _ _ _ _ _ k => lr_aload_n hx hb dJ5_ensureCapacityInternal_0 rfl (lv_at hl 0 rfl) k) ?_
  refine rk_get zm_rdR_eq C (hc_J6 H) (k := 0) (Nat.le_of_ble_eq_true rfl) in_J6 q255 (fun _ h => h) dJ5_ensureCapacityInternal_1 (fun v1 => ?_)
  refine rk_alen C dJ5_ensureCapacityInternal_4 (fun v4 => ?_)
  refine rk_of (fun _ _ _ _ _ k => lr_aload_n hx hb dJ5_ensureCapacityInternal_5 rfl (lv_at hl 0 rfl) k) ?_
  refine rk_get zm_rdI_eq C (hc_J6 H) (k := 1) (Nat.le_of_ble_eq_true rfl) in_J6 q256 (fun _ h => h) dJ5_ensureCapacityInternal_6 (fun v6 => ?_)
  refine rk_ofs (fun _ _ _ _ _ k => lv_ishr hx hb dJ5_ensureCapacityInternal_9 (lr_istore_n hx hb dJ5_ensureCapacityInternal_10 rfl hl (Nat.le_of_ble_eq_true rfl) [0, 1] rfl ⟨trivial, ⟨rfl, trivial⟩⟩ k)) (fun ls hl => ?_)
  refine rk_ite (fun _ _ _ _ _ k1 k2 => lv_iload_n hx hb dJ5_ensureCapacityInternal_11 rfl (lv_at hl 2 rfl) (lv_iload_n hx hb dJ5_ensureCapacityInternal_12 rfl (lv_at hl 0 rfl) (lv_isub hx hb dJ5_ensureCapacityInternal_13 (lv_if_le (tgt := 38) hx hb dJ5_ensureCapacityInternal_14 (by decide) k1 k2)))) (fun c_14 => ?_) (fun c_14 => ?_)
  · exact rk_top (rf_vret C dJ5_ensureCapacityInternal_38)
  · refine rk_of (fun _ _ _ _ _ k => lr_aload_n hx hb dJ5_ensureCapacityInternal_17 rfl (lv_at hl 1 rfl) (lr_aload_n hx hb dJ5_ensureCapacityInternal_18 rfl (lv_at hl 1 rfl) k)) ?_
    refine rk_get zm_rdR_eq C (hc_J6 H) (k := 0) (Nat.le_of_ble_eq_true rfl) in_J6 q255 (fun _ h => h) dJ5_ensureCapacityInternal_19 (fun v19 => ?_)
    refine rk_of (fun _ _ _ _ _ k => lr_aload_n hx hb dJ5_ensureCapacityInternal_22 rfl (lv_at hl 1 rfl) (lv_iload_n hx hb dJ5_ensureCapacityInternal_23 rfl (lv_at hl 2 rfl) k)) ?_
    refine rk_callI hX (cl_U (n := 1) (rest := [va_rf v19, va_rf a0]) (av := [.int a1]) C (hc_J6 H) (ct_J5_newCapacity H a0 a1) (lw_meth q431) q108 q428 (C.2.2.2.1 _ q3072) (va_Decl.of (C.2.2.2.1 _ q430) (C.2.2.2.1 _ q431)) (zh_up C rfl (zk_selP (by decide +kernel) (zh_w0 H (List.mem_filter.mp q238).1) (zh_w0 H q429) (zh_w0 H (List.mem_filter.mp q430).1) (zh_w0 H (List.mem_filter.mp q462).1) rfl)) q430 (by decide +kernel) ⟨(Nat.le_of_ble_eq_true rfl), (Nat.le_of_ble_eq_true rfl)⟩ rfl hl.1 rfl (zw_le (zw_R (zw_R zw_nil)) (Nat.le_of_ble_eq_true rfl)) dJ5_ensureCapacityInternal_24) (fun v24 => ?_)
    refine rk_of (fun _ _ _ _ _ k => lr_aload_n hx hb dJ5_ensureCapacityInternal_27 rfl (lv_at hl 1 rfl) k) ?_
    refine rk_get zm_rdI_eq C (hc_J6 H) (k := 1) (Nat.le_of_ble_eq_true rfl) in_J6 q256 (fun _ h => h) dJ5_ensureCapacityInternal_28 (fun v28 => ?_)
    refine rk_of (fun _ _ _ _ _ k => lv_ishl hx hb dJ5_ensureCapacityInternal_31 k) ?_
    refine rk_callR hX (cl_S (rest := [va_rf a0]) C (ct_J17_copyOf H v19 (v24 <<< (v28 &&& 31))) (lw_S q443 q444 q123 q445) hd_J17_copyOf ⟨(Nat.le_of_ble_eq_true rfl), (Nat.le_of_ble_eq_true rfl)⟩ rfl hl.1 rfl (zw_le (zw_R zw_nil) (Nat.le_of_ble_eq_true rfl)) dJ5_ensureCapacityInternal_32) (fun v32 => ?_)
    refine rk_put C H.2.2.1 (hc_J6 H) (k := 0) (Nat.le_of_ble_eq_true rfl) in_J6 (ty0 := tyJ6) tyJ6_ok nmJ6 q255 (fun _ h => h) (Or.inl rfl) (zn_R rfl _) (zp_R rfl _) dJ5_ensureCapacityInternal_35 ?_
    exact rk_top (rf_vret C dJ5_ensureCapacityInternal_38)
theorem hd_J5_isLatin1 : yJ5_isLatin1.cls ≠ "java/lang/invoke/MethodHandle" ∧ yJ5_isLatin1.cls ≠ "java/lang/invoke/VarHandle" ∧ (parseMethodDescriptor yJ5_isLatin1.desc).map (fun d => d.parameters.length) = some 0 := by decide +kernel
noncomputable def fn_J5_isLatin1 (K : zm_K) (a0 : zm_R) : zm_M Int32 :=
  if (1 : Int32) = 0 then
    zm_ret 0
  else
    zm_bnd (zm_getI a0 2 1) fun v7 =>
    if v7 = 0 then
      zm_ret 1
    else
      zm_ret 0
theorem ct_J5_isLatin1 {l : Launch} {Ω : zm_W} {K : zm_K} (H : zm_H Ω K) (a0 : zm_R) : zm_Ct l Ω yJ5_isLatin1 (ws_ yJ5_isLatin1 cJ5_isLatin1 1 (Option.some Jvm.ClassFile.FieldType.boolean)) 1 64 [va_rf a0] zm_tvI (fn_J5_isLatin1 K a0) := by
  refine zm_ct H.1 (by decide +kernel) (zl_le (zl_R zl_nil) (Nat.le_of_ble_eq_true rfl)) ?_
  intro p e R s m args below meth c n0 k0 C hX ls hl
  have hx := C.1
  have hb := C.2.1
  simp only [zg_R, zg_nil] at hl
  have hl : lv_has ls 1 [(0, va_rf a0)] := hl
  refine rk_rf ?_
  unfold fn_J5_isLatin1
  refine rk_gets C (zh_it1 H) q246 (fun _ h => h) dJ5_isLatin1_0 ?_
  refine rk_ite (fun _ _ _ _ _ k1 k2 => lv_if_eq (tgt := 17) hx hb dJ5_isLatin1_3 (by decide) k1 k2) (fun c_3 => ?_) (fun c_3 => ?_)
  · refine rk_of (fun _ _ _ _ _ k => lv_iconst (v := 0) hx hb dJ5_isLatin1_17 rfl k) ?_
    exact rk_top (rf_iret C rfl dJ5_isLatin1_18)
  · refine rk_of (fun _ _ _ _ _ k => lr_aload_n hx hb dJ5_isLatin1_6 rfl (lv_at hl 0 rfl) k) ?_
    refine rk_get zm_rdI_eq C (hc_J6 H) (k := 1) (Nat.le_of_ble_eq_true rfl) in_J6 q256 (fun _ h => h) dJ5_isLatin1_7 (fun v7 => ?_)
    refine rk_ite (fun _ _ _ _ _ k1 k2 => lv_if_ne (tgt := 17) hx hb dJ5_isLatin1_10 (by decide) k2 k1) (fun c_10 => ?_) (fun c_10 => ?_)
    · refine rk_of (fun _ _ _ _ _ k => lv_iconst (v := 1) hx hb dJ5_isLatin1_13 rfl (lv_goto (tgt := 18) hx hb dJ5_isLatin1_14 (by decide) k)) ?_
      exact rk_top (rf_iret C rfl dJ5_isLatin1_18)
    · refine rk_of (fun _ _ _ _ _ k => lv_iconst (v := 0) hx hb dJ5_isLatin1_17 rfl k) ?_
      exact rk_top (rf_iret C rfl dJ5_isLatin1_18)
theorem hd_J8_length : yJ8_length.cls ≠ "java/lang/invoke/MethodHandle" ∧ yJ8_length.cls ≠ "java/lang/invoke/VarHandle" ∧ (parseMethodDescriptor yJ8_length.desc).map (fun d => d.parameters.length) = some 1 := by decide +kernel
noncomputable def fn_J8_length (K : zm_K) (a0 : zm_R) : zm_M Int32 :=
  zm_bnd (zm_alen a0) fun v1 =>
  zm_ret (v1 >>> (1 &&& 31))
theorem ct_J8_length {l : Launch} {Ω : zm_W} {K : zm_K} (H : zm_H Ω K) (a0 : zm_R) : zm_Ct l Ω yJ8_length (ws_ yJ8_length cJ8_length 1 (Option.some Jvm.ClassFile.FieldType.int)) 1 64 [va_rf a0] zm_tvI (fn_J8_length K a0) := by
  refine zm_ct H.1 (by decide +kernel) (zl_le (zl_R zl_nil) (Nat.le_of_ble_eq_true rfl)) ?_
  intro p e R s m args below meth c n0 k0 C hX ls hl
  have hx := C.1
  have hb := C.2.1
  simp only [zg_R, zg_nil] at hl
  have hl : lv_has ls 1 [(0, va_rf a0)] := hl
  refine rk_rf ?_
  unfold fn_J8_length
  refine rk_of (fun _ _ _ _ _ k => lr_aload_n hx hb dJ8_length_0 rfl (lv_at hl 0 rfl) k) ?_
  refine rk_alen C dJ8_length_1 (fun v1 => ?_)
  refine rk_of (fun _ _ _ _ _ k => lv_iconst (v := 1) hx hb dJ8_length_2 rfl (lv_ishr hx hb dJ8_length_3 k)) ?_
  exact rk_top (rf_iret C rfl dJ8_length_4)
theorem hd_J20_checkFromIndexSize : yJ20_checkFromIndexSize.cls ≠ "java/lang/invoke/MethodHandle" ∧ yJ20_checkFromIndexSize.cls ≠ "java/lang/invoke/VarHandle" ∧ (parseMethodDescriptor yJ20_checkFromIndexSize.desc).map (fun d => d.parameters.length) = some 4 := by decide +kernel
noncomputable def fn_J20_checkFromIndexSize (K : zm_K) (a0 : Int32) (a1 : Int32) (a2 : Int32) (a3 : zm_R) : zm_M Int32 :=
  zm_bnx (β := Unit) (
      if ((a2 ||| a0) ||| a1) < 0 then
        zm_ret (Sum.inl ())
      else
        if a1 ≤ (a2 - a0) then
          zm_ret (Sum.inr a0)
        else
          zm_ret (Sum.inl ())
    ) fun (_ : Unit) =>
  zm_fl
theorem ct_J20_checkFromIndexSize {l : Launch} {Ω : zm_W} {K : zm_K} (H : zm_H Ω K) (a0 : Int32) (a1 : Int32) (a2 : Int32) (a3 : zm_R) : zm_Ct l Ω yJ20_checkFromIndexSize (ws_ yJ20_checkFromIndexSize cJ20_checkFromIndexSize 4 (Option.some Jvm.ClassFile.FieldType.int)) 1 64 [.int a0, .int a1, .int a2, va_rf a3] zm_tvI (fn_J20_checkFromIndexSize K a0 a1 a2 a3) := by
  refine zm_ct H.1 (by decide +kernel) (zl_le (zl_I (zl_I (zl_I (zl_R zl_nil)))) (Nat.le_of_ble_eq_true rfl)) ?_
  intro p e R s m args below meth c n0 k0 C hX ls hl
  have hx := C.1
  have hb := C.2.1
  simp only [zg_I, zg_R, zg_nil] at hl
  have hl : lv_has ls 4 [(0, .int a0), (1, .int a1), (2, .int a2), (3, va_rf a3)] := hl
  refine rk_rf ?_
  unfold fn_J20_checkFromIndexSize
  refine rk_of (fun _ _ _ _ _ k => lv_iload_n hx hb dJ20_checkFromIndexSize_0 rfl (lv_at hl 2 rfl) (lv_iload_n hx hb dJ20_checkFromIndexSize_1 rfl (lv_at hl 0 rfl) (lv_ior hx hb dJ20_checkFromIndexSize_2 (lv_iload_n hx hb dJ20_checkFromIndexSize_3 rfl (lv_at hl 1 rfl) (lv_ior hx hb dJ20_checkFromIndexSize_4 k))))) ?_
  refine rk_joinx (β := Unit) (fun (b15 : Unit) ls => lv_has ls 4 [(0, .int a0), (1, .int a1), (2, .int a2), (3, va_rf a3)]) (fun (b15 : Unit) ls => F0 m 15 ls []) (fun b15 ls hl => ?_) (fun hJ15 => ?_)
  · refine rk_of (fun _ _ _ _ _ k => lr_aload_n hx hb dJ20_checkFromIndexSize_15 rfl (lv_at hl 3 rfl) (lv_iload_n hx hb dJ20_checkFromIndexSize_16 rfl (lv_at hl 0 rfl) (lv_iload_n hx hb dJ20_checkFromIndexSize_17 rfl (lv_at hl 1 rfl) (lv_iload_n hx hb dJ20_checkFromIndexSize_18 rfl (lv_at hl 2 rfl) k)))) ?_
    exact rk_fl
  · refine rk_ite (fun _ _ _ _ _ k1 k2 => lv_if_lt (tgt := 15) hx hb dJ20_checkFromIndexSize_5 (by decide) k1 k2) (fun c_5 => ?_) (fun c_5 => ?_)
    · exact hJ15 () ls (lv_sub hl [0, 1, 2, 3] rfl)
    · refine rk_ite (fun _ _ _ _ _ k1 k2 => lv_iload_n hx hb dJ20_checkFromIndexSize_8 rfl (lv_at hl 1 rfl) (lv_iload_n hx hb dJ20_checkFromIndexSize_9 rfl (lv_at hl 2 rfl) (lv_iload_n hx hb dJ20_checkFromIndexSize_10 rfl (lv_at hl 0 rfl) (lv_isub hx hb dJ20_checkFromIndexSize_11 (lv_icmp_le (tgt := 23) hx hb dJ20_checkFromIndexSize_12 (by decide) k1 k2))))) (fun c_12 => ?_) (fun c_12 => ?_)
      · refine rk_of (fun _ _ _ _ _ k => lv_iload_n hx hb dJ20_checkFromIndexSize_23 rfl (lv_at hl 0 rfl) k) ?_
        refine rk_inr ?_
        exact rk_top (rf_iret C rfl dJ20_checkFromIndexSize_24)
      · exact hJ15 () ls (lv_sub hl [0, 1, 2, 3] rfl)
theorem hd_J7_checkBoundsOffCount : yJ7_checkBoundsOffCount.cls ≠ "java/lang/invoke/MethodHandle" ∧ yJ7_checkBoundsOffCount.cls ≠ "java/lang/invoke/VarHandle" ∧ (parseMethodDescriptor yJ7_checkBoundsOffCount.desc).map (fun d => d.parameters.length) = some 3 := by decide +kernel
noncomputable def fn_J7_checkBoundsOffCount (K : zm_K) (a0 : Int32) (a1 : Int32) (a2 : Int32) : zm_M Int32 :=
  zm_bnd (fn_J20_checkFromIndexSize K a0 a1 a2 (K.2 7)) fun v6 =>
  zm_ret v6
theorem ct_J7_checkBoundsOffCount {l : Launch} {Ω : zm_W} {K : zm_K} (H : zm_H Ω K) (a0 : Int32) (a1 : Int32) (a2 : Int32) : zm_Ct l Ω yJ7_checkBoundsOffCount (ws_ yJ7_checkBoundsOffCount cJ7_checkBoundsOffCount 3 (Option.some Jvm.ClassFile.FieldType.int)) 2 87 [.int a0, .int a1, .int a2] zm_tvI (fn_J7_checkBoundsOffCount K a0 a1 a2) := by
  refine zm_ct H.1 (by decide +kernel) (zl_le (zl_I (zl_I (zl_I zl_nil))) (Nat.le_of_ble_eq_true rfl)) ?_
  intro p e R s m args below meth c n0 k0 C hX ls hl
  have hx := C.1
  have hb := C.2.1
  simp only [zg_I, zg_nil] at hl
  have hl : lv_has ls 3 [(0, .int a0), (1, .int a1), (2, .int a2)] := hl
  refine rk_rf ?_
  unfold fn_J7_checkBoundsOffCount
  refine rk_of (fun _ _ _ _ _ k => lv_iload_n hx hb dJ7_checkBoundsOffCount_0 rfl (lv_at hl 0 rfl) (lv_iload_n hx hb dJ7_checkBoundsOffCount_1 rfl (lv_at hl 1 rfl) (lv_iload_n hx hb dJ7_checkBoundsOffCount_2 rfl (lv_at hl 2 rfl) k))) ?_
  refine rk_gets C (zh_st7 H) q476 (fun _ h => h) dJ7_checkBoundsOffCount_3 ?_
  refine rk_callI hX (cl_S (rest := []) C (ct_J20_checkFromIndexSize H a0 a1 a2 (K.2 7)) (lw_S q524 q525 q127 q526) hd_J20_checkFromIndexSize ⟨(Nat.le_of_ble_eq_true rfl), (Nat.le_of_ble_eq_true rfl)⟩ rfl hl.1 rfl (zw_le zw_nil (Nat.le_of_ble_eq_true rfl)) dJ7_checkBoundsOffCount_6) (fun v6 => ?_)
  exact rk_top (rf_iret C rfl dJ7_checkBoundsOffCount_9)
theorem hd_J8_checkBoundsOffCount : yJ8_checkBoundsOffCount.cls ≠ "java/lang/invoke/MethodHandle" ∧ yJ8_checkBoundsOffCount.cls ≠ "java/lang/invoke/VarHandle" ∧ (parseMethodDescriptor yJ8_checkBoundsOffCount.desc).map (fun d => d.parameters.length) = some 3 := by decide +kernel
noncomputable def fn_J8_checkBoundsOffCount (K : zm_K) (a0 : Int32) (a1 : Int32) (a2 : zm_R) : zm_M Unit :=
  zm_bnd (fn_J8_length K a2) fun v3 =>
  zm_bnd (fn_J7_checkBoundsOffCount K a0 a1 v3) fun v6 =>
  zm_ret ()
theorem ct_J8_checkBoundsOffCount {l : Launch} {Ω : zm_W} {K : zm_K} (H : zm_H Ω K) (a0 : Int32) (a1 : Int32) (a2 : zm_R) : zm_Ct l Ω yJ8_checkBoundsOffCount (ws_ yJ8_checkBoundsOffCount cJ8_checkBoundsOffCount 3 (Option.none : Option Jvm.ClassFile.FieldType)) 3 109 [.int a0, .int a1, va_rf a2] zm_tvV (fn_J8_checkBoundsOffCount K a0 a1 a2) := by
  refine zm_ct H.1 (by decide +kernel) (zl_le (zl_I (zl_I (zl_R zl_nil))) (Nat.le_of_ble_eq_true rfl)) ?_
  intro p e R s m args below meth c n0 k0 C hX ls hl
  have hx := C.1
  have hb := C.2.1
  simp only [zg_I, zg_R, zg_nil] at hl
  have hl : lv_has ls 3 [(0, .int a0), (1, .int a1), (2, va_rf a2)] := hl
  refine rk_rf ?_
  unfold fn_J8_checkBoundsOffCount
  refine rk_of (fun _ _ _ _ _ k => lv_iload_n hx hb dJ8_checkBoundsOffCount_0 rfl (lv_at hl 0 rfl) (lv_iload_n hx hb dJ8_checkBoundsOffCount_1 rfl (lv_at hl 1 rfl) (lr_aload_n hx hb dJ8_checkBoundsOffCount_2 rfl (lv_at hl 2 rfl) k))) ?_
  refine rk_callI hX (cl_S (rest := [.int a1, .int a0]) C (ct_J8_length H a2) (lw_S q470 q471 q111 q472) hd_J8_length ⟨(Nat.le_of_ble_eq_true rfl), (Nat.le_of_ble_eq_true rfl)⟩ rfl hl.1 rfl (zw_le (zw_I (zw_I zw_nil)) (Nat.le_of_ble_eq_true rfl)) dJ8_checkBoundsOffCount_3) (fun v3 => ?_)
  refine rk_callI hX (cl_S (rest := []) C (ct_J7_checkBoundsOffCount H a0 a1 v3) (lw_S q521 q522 q110 q523) hd_J7_checkBoundsOffCount ⟨(Nat.le_of_ble_eq_true rfl), (Nat.le_of_ble_eq_true rfl)⟩ rfl hl.1 rfl (zw_le zw_nil (Nat.le_of_ble_eq_true rfl)) dJ8_checkBoundsOffCount_6) (fun v6 => ?_)
  refine rk_of (fun _ _ _ _ _ k => lv_pop hx hb dJ8_checkBoundsOffCount_9 rfl k) ?_
  exact rk_top (rf_vret C dJ8_checkBoundsOffCount_10)
theorem hd_J8_putChar : yJ8_putChar.cls ≠ "java/lang/invoke/MethodHandle" ∧ yJ8_putChar.cls ≠ "java/lang/invoke/VarHandle" ∧ (parseMethodDescriptor yJ8_putChar.desc).map (fun d => d.parameters.length) = some 3 := by decide +kernel
noncomputable def fn_J8_putChar (K : zm_K) (a0 : zm_R) (a1 : Int32) (a2 : Int32) : zm_M Unit :=
  zm_bnd (α := Unit) (
      if (1 : Int32) = 0 then
        zm_bnx (β := Unit) (
            if a1 < 0 then
              zm_ret (Sum.inl ())
            else
              zm_bnd (fn_J8_length K a0) fun v12 =>
              if a1 < v12 then
                zm_ret (Sum.inr ())
              else
                zm_ret (Sum.inl ())
          ) fun (_ : Unit) =>
        zm_fl
      else
        zm_ret ()
    ) fun (_ : Unit) =>
  zm_bnd (zm_astI K .byte a0 (a1 <<< (1 &&& 31)) ((a2 >>> (0 &&& 31)).toInt8.toInt32)) fun _ =>
  zm_bnd (zm_astI K .byte a0 ((a1 <<< (1 &&& 31)) + 1) ((a2 >>> (8 &&& 31)).toInt8.toInt32)) fun _ =>
  zm_ret ()
theorem ct_J8_putChar {l : Launch} {Ω : zm_W} {K : zm_K} (H : zm_H Ω K) (a0 : zm_R) (a1 : Int32) (a2 : Int32) : zm_Ct l Ω yJ8_putChar (ws_ yJ8_putChar cJ8_putChar 3 (Option.none : Option Jvm.ClassFile.FieldType)) 2 84 [va_rf a0, .int a1, .int a2] zm_tvV (fn_J8_putChar K a0 a1 a2) := by
  refine zm_ct H.1 (by decide +kernel) (zl_le (zl_R (zl_I (zl_I zl_nil))) (Nat.le_of_ble_eq_true rfl)) ?_
  intro p e R s m args below meth c n0 k0 C hX ls hl
  have hx := C.1
  have hb := C.2.1
  simp only [zg_I, zg_R, zg_nil] at hl
  have hl : lv_has ls 3 [(0, va_rf a0), (1, .int a1), (2, .int a2)] := hl
  refine rk_rf ?_
  unfold fn_J8_putChar
  refine rk_gets C (zh_it2 H) q484 (fun _ h => h) dJ8_putChar_0 ?_
  refine rk_join (β := Unit) (fun (b28 : Unit) ls => lv_has ls 3 [(0, va_rf a0), (1, .int a1), (2, .int a2)]) (fun (b28 : Unit) ls => F0 m 28 ls []) (fun b28 ls hl => ?_) (fun hJ28 => ?_)
  · refine rk_ofs (fun _ _ _ _ _ k => lv_iload_n hx hb dJ8_putChar_28 rfl (lv_at hl 1 rfl) (lv_iconst (v := 1) hx hb dJ8_putChar_29 rfl (lv_ishl hx hb dJ8_putChar_30 (lr_istore_n hx hb dJ8_putChar_31 rfl hl (Nat.le_of_ble_eq_true rfl) [0, 2] rfl ⟨(by first | exact va_rf_cat _ | rfl), ⟨trivial, trivial⟩⟩ k)))) (fun ls hl => ?_)
    refine rk_ofs (fun _ _ _ _ _ k => lr_aload_n hx hb dJ8_putChar_32 rfl (lv_at hl 1 rfl) (lv_iload_n hx hb dJ8_putChar_33 rfl (lv_at hl 0 rfl) (lr_iinc (v := (a1 <<< (1 &&& 31)) + 1) hx hb dJ8_putChar_34 hl (k := 0) rfl rfl (Nat.le_of_ble_eq_true rfl) [1, 2] rfl ⟨(by first | exact va_rf_cat _ | rfl), ⟨trivial, trivial⟩⟩ k))) (fun ls hl => ?_)
    refine rk_of (fun _ _ _ _ _ k => lv_iload_n hx hb dJ8_putChar_37 rfl (lv_at hl 2 rfl) k) ?_
    refine rk_gets C (zh_it3 H) q486 (fun _ h => h) dJ8_putChar_38 ?_
    refine rk_of (fun _ _ _ _ _ k => lv_ishr hx hb dJ8_putChar_41 (lv_i2b hx hb dJ8_putChar_42 rfl k)) ?_
    refine rk_bast C H.2.2.1 dJ8_putChar_43 ?_
    refine rk_of (fun _ _ _ _ _ k => lr_aload_n hx hb dJ8_putChar_44 rfl (lv_at hl 1 rfl) (lv_iload_n hx hb dJ8_putChar_45 rfl (lv_at hl 0 rfl) (lv_iload_n hx hb dJ8_putChar_46 rfl (lv_at hl 2 rfl) k))) ?_
    refine rk_gets C (zh_it4 H) q488 (fun _ h => h) dJ8_putChar_47 ?_
    refine rk_of (fun _ _ _ _ _ k => lv_ishr hx hb dJ8_putChar_50 (lv_i2b hx hb dJ8_putChar_51 rfl k)) ?_
    refine rk_bast C H.2.2.1 dJ8_putChar_52 ?_
    exact rk_top (rf_vret C dJ8_putChar_53)
  · refine rk_ite (fun _ _ _ _ _ k1 k2 => lv_if_ne (tgt := 28) hx hb dJ8_putChar_3 (by decide) k2 k1) (fun c_3 => ?_) (fun c_3 => ?_)
    · refine rk_of (fun _ _ _ _ _ k => lv_iload_n hx hb dJ8_putChar_6 rfl (lv_at hl 1 rfl) k) ?_
      refine rk_joinx (β := Unit) (fun (b18 : Unit) ls => lv_has ls 3 []) (fun (b18 : Unit) ls => F0 m 18 ls []) (fun b18 ls hl => ?_) (fun hJ18 => ?_)
      · exact rk_fl
      · refine rk_ite (fun _ _ _ _ _ k1 k2 => lv_if_lt (tgt := 18) hx hb dJ8_putChar_7 (by decide) k1 k2) (fun c_7 => ?_) (fun c_7 => ?_)
        · exact hJ18 () ls (lv_sub hl [] rfl)
        · refine rk_of (fun _ _ _ _ _ k => lv_iload_n hx hb dJ8_putChar_10 rfl (lv_at hl 1 rfl) (lr_aload_n hx hb dJ8_putChar_11 rfl (lv_at hl 0 rfl) k)) ?_
          refine rk_callI hX (cl_S (rest := [.int a1]) C (ct_J8_length H a0) (lw_S q470 q471 q111 q472) hd_J8_length ⟨(Nat.le_of_ble_eq_true rfl), (Nat.le_of_ble_eq_true rfl)⟩ rfl hl.1 rfl (zw_le (zw_I zw_nil) (Nat.le_of_ble_eq_true rfl)) dJ8_putChar_12) (fun v12 => ?_)
          refine rk_ite (fun _ _ _ _ _ k1 k2 => lv_icmp_lt (tgt := 28) hx hb dJ8_putChar_15 (by decide) k1 k2) (fun c_15 => ?_) (fun c_15 => ?_)
          · refine rk_inr ?_
            exact hJ28 () ls (lv_sub hl [0, 1, 2] rfl)
          · exact hJ18 () ls (lv_sub hl [] rfl)
    · exact hJ28 () ls (lv_sub hl [0, 1, 2] rfl)
theorem hd_J8_inflate : yJ8_inflate.cls ≠ "java/lang/invoke/MethodHandle" ∧ yJ8_inflate.cls ≠ "java/lang/invoke/VarHandle" ∧ (parseMethodDescriptor yJ8_inflate.desc).map (fun d => d.parameters.length) = some 5 := by decide +kernel
noncomputable def fn_J8_inflate_10 (K : zm_K) (p0 : zm_R) (p2 : zm_R) (p4 : Int32) : Nat → Int32 → Int32 → Int32 → zm_M (Unit)
  | 0, _, _, _ => zm_fl
  | n + 1, x1, x3, x5 =>
    if p4 ≤ x5 then
      zm_ret ()
    else
      zm_bnd (zm_aldI .byte p0 x1) fun v27 =>
      zm_bnd (fn_J8_putChar K p2 x3 (v27 &&& 255)) fun _ =>
      fn_J8_inflate_10 K p0 p2 p4 n (x1 + 1) (x3 + 1) (x5 + 1)
noncomputable def fn_J8_inflate (K : zm_K) (a0 : zm_R) (a1 : Int32) (a2 : zm_R) (a3 : Int32) (a4 : Int32) : zm_M Unit :=
  zm_bnd (fn_J8_checkBoundsOffCount K a3 a4 a2) fun _ =>
  zm_bnd (α := Unit) (fn_J8_inflate_10 K a0 a2 a4 zm_N a1 a3 0) fun (_ : Unit) =>
  zm_ret ()
theorem rf_J8_inflate_10 (H : zm_H Ω K) (C : zm_C p l R s m args meth c Ω lw_all cJ8_inflate yJ8_inflate.cls yJ8_inflate.name 6 4 131 (Option.none : Option Jvm.ClassFile.FieldType)) (hX : zm_XO p l e R s m args below meth c Ω n0 k0 (zm_QFs below args s Ω n0 k0 zm_tvV)) (p0 : zm_R) (p2 : zm_R) (p4 : Int32) : ∀ (n : Nat) (x1 : Int32) (x3 : Int32) (x5 : Int32) (J : (Unit) → zm_M Unit) (ls : Array Slot), lv_has ls 6 [(0, va_rf p0), (2, va_rf p2), (4, .int p4), (1, .int x1), (3, .int x3), (5, .int x5)] → (∀ (b : Unit) (ls : Array Slot), lv_has ls 6 [] → zm_RK p l e R s m args below meth c Ω n0 k0 (zm_QFs below args s Ω n0 k0 zm_tvV) (zm_ret b) J (F0 m 41 ls [])) → zm_RK p l e R s m args below meth c Ω n0 k0 (zm_QFs below args s Ω n0 k0 zm_tvV) (fn_J8_inflate_10 K p0 p2 p4 n x1 x3 x5) J (F0 m 10 ls []) := by
  have hx := C.1
  have hb := C.2.1
  intro n
  induction n with
  | zero => intro x1 x3 x5 J ls hl hJ; exact rk_fl
  | succ n ih =>
    intro x1 x3 x5 J ls hl hJ
    unfold fn_J8_inflate_10
    refine rk_ite (fun _ _ _ _ _ k1 k2 => lv_iload hx hb dJ8_inflate_10 (lv_at hl 5 rfl) (lv_iload hx hb dJ8_inflate_12 (lv_at hl 2 rfl) (lv_icmp_ge (tgt := 41) hx hb dJ8_inflate_14 (by decide) k1 k2))) (fun c_14 => ?_) (fun c_14 => ?_)
    · exact hJ () ls (lv_sub hl [] rfl)
    · refine rk_ofs (fun _ _ _ _ _ k => lr_aload_n hx hb dJ8_inflate_17 rfl (lv_at hl 1 rfl) (lv_iload_n hx hb dJ8_inflate_18 rfl (lv_at hl 4 rfl) (lr_iinc (v := x3 + 1) hx hb dJ8_inflate_19 hl (k := 4) rfl rfl (Nat.le_of_ble_eq_true rfl) [0, 1, 2, 3, 5] rfl ⟨trivial, ⟨(by first | exact va_rf_cat _ | rfl), ⟨trivial, ⟨trivial, ⟨trivial, trivial⟩⟩⟩⟩⟩ k))) (fun ls hl => ?_)
      refine rk_ofs (fun _ _ _ _ _ k => lr_aload_n hx hb dJ8_inflate_22 rfl (lv_at hl 1 rfl) (lv_iload_n hx hb dJ8_inflate_23 rfl (lv_at hl 4 rfl) (lr_iinc (v := x1 + 1) hx hb dJ8_inflate_24 hl (k := 4) rfl rfl (Nat.le_of_ble_eq_true rfl) [0, 1, 2, 3, 5] rfl ⟨trivial, ⟨(by first | exact va_rf_cat _ | rfl), ⟨trivial, ⟨trivial, ⟨trivial, trivial⟩⟩⟩⟩⟩ k))) (fun ls hl => ?_)
      refine rk_bald C dJ8_inflate_27 (fun v27 => ?_)
      refine rk_of (fun _ _ _ _ _ k => lv_sipush (v := 255) hx hb dJ8_inflate_28 rfl (lv_iand hx hb dJ8_inflate_31 k)) ?_
      refine rk_callV hX (cl_S (rest := []) C (ct_J8_putChar H p2 x3 (v27 &&& 255)) (lw_S q481 q482 q111 q483) hd_J8_putChar ⟨(Nat.le_of_ble_eq_true rfl), (Nat.le_of_ble_eq_true rfl)⟩ rfl hl.1 rfl (zw_le zw_nil (Nat.le_of_ble_eq_true rfl)) dJ8_inflate_32) (fun _ => ?_)
      refine rk_ofs (fun _ _ _ _ _ k => lr_iinc (v := x5 + 1) hx hb dJ8_inflate_35 hl (k := 5) rfl rfl (Nat.le_of_ble_eq_true rfl) [0, 1, 2, 3, 4] rfl ⟨trivial, ⟨trivial, ⟨trivial, ⟨trivial, ⟨rfl, trivial⟩⟩⟩⟩⟩ k) (fun ls hl => ?_)
      refine rk_of (fun _ _ _ _ _ k => lv_goto (tgt := 10) hx hb dJ8_inflate_38 (by decide) k) ?_
      exact ih (x1 + 1) (x3 + 1) (x5 + 1) J ls (lv_sub hl [3, 4, 5, 1, 2, 0] rfl) hJ
theorem ct_J8_inflate {l : Launch} {Ω : zm_W} {K : zm_K} (H : zm_H Ω K) (a0 : zm_R) (a1 : Int32) (a2 : zm_R) (a3 : Int32) (a4 : Int32) : zm_Ct l Ω yJ8_inflate (ws_ yJ8_inflate cJ8_inflate 6 (Option.none : Option Jvm.ClassFile.FieldType)) 4 131 [va_rf a0, .int a1, va_rf a2, .int a3, .int a4] zm_tvV (fn_J8_inflate K a0 a1 a2 a3 a4) := by
  refine zm_ct H.1 (by decide +kernel) (zl_le (zl_R (zl_I (zl_R (zl_I (zl_I zl_nil))))) (Nat.le_of_ble_eq_true rfl)) ?_
  intro p e R s m args below meth c n0 k0 C hX ls hl
  have hx := C.1
  have hb := C.2.1
  simp only [zg_I, zg_R, zg_nil] at hl
  have hl : lv_has ls 6 [(0, va_rf a0), (1, .int a1), (2, va_rf a2), (3, .int a3), (4, .int a4)] := hl
  refine rk_rf ?_
  unfold fn_J8_inflate
  refine rk_of (fun _ _ _ _ _ k => lv_iload_n hx hb dJ8_inflate_0 rfl (lv_at hl 3 rfl) (lv_iload hx hb dJ8_inflate_1 (lv_at hl 4 rfl) (lr_aload_n hx hb dJ8_inflate_3 rfl (lv_at hl 2 rfl) k))) ?_
  refine rk_callV hX (cl_S (rest := []) C (ct_J8_checkBoundsOffCount H a3 a4 a2) (lw_S q518 q519 q111 q520) hd_J8_checkBoundsOffCount ⟨(Nat.le_of_ble_eq_true rfl), (Nat.le_of_ble_eq_true rfl)⟩ rfl hl.1 rfl (zw_le zw_nil (Nat.le_of_ble_eq_true rfl)) dJ8_inflate_4) (fun _ => ?_)
  refine rk_ofs (fun _ _ _ _ _ k => lv_iconst (v := 0) hx hb dJ8_inflate_7 rfl (lr_istore hx hb dJ8_inflate_8 hl (Nat.le_of_ble_eq_true rfl) [0, 1, 2, 3, 4] rfl ⟨trivial, ⟨trivial, ⟨trivial, ⟨trivial, ⟨rfl, trivial⟩⟩⟩⟩⟩ k)) (fun ls hl => ?_)
  refine rk_join (β := Unit) (fun (b41 : Unit) ls => lv_has ls 6 []) (fun (b41 : Unit) ls => F0 m 41 ls []) (fun b41 ls hl => ?_) (fun hJ41 => ?_)
  · exact rk_top (rf_vret C dJ8_inflate_41)
  · exact rf_J8_inflate_10 H C hX a0 a2 a4 zm_N a1 a3 0 _ ls (lv_sub hl [1, 3, 5, 2, 4, 0] rfl) hJ41
theorem hd_J21_inflate : yJ21_inflate.cls ≠ "java/lang/invoke/MethodHandle" ∧ yJ21_inflate.cls ≠ "java/lang/invoke/VarHandle" ∧ (parseMethodDescriptor yJ21_inflate.desc).map (fun d => d.parameters.length) = some 5 := by decide +kernel
noncomputable def fn_J21_inflate (K : zm_K) (a0 : zm_R) (a1 : Int32) (a2 : zm_R) (a3 : Int32) (a4 : Int32) : zm_M Unit :=
  zm_bnd (fn_J8_inflate K a0 a1 a2 a3 a4) fun _ =>
  zm_ret ()
theorem ct_J21_inflate {l : Launch} {Ω : zm_W} {K : zm_K} (H : zm_H Ω K) (a0 : zm_R) (a1 : Int32) (a2 : zm_R) (a3 : Int32) (a4 : Int32) : zm_Ct l Ω yJ21_inflate (ws_ yJ21_inflate cJ21_inflate 5 (Option.none : Option Jvm.ClassFile.FieldType)) 5 156 [va_rf a0, .int a1, va_rf a2, .int a3, .int a4] zm_tvV (fn_J21_inflate K a0 a1 a2 a3 a4) := by
  refine zm_ct H.1 (by decide +kernel) (zl_le (zl_R (zl_I (zl_R (zl_I (zl_I zl_nil))))) (Nat.le_of_ble_eq_true rfl)) ?_
  intro p e R s m args below meth c n0 k0 C hX ls hl
  have hx := C.1
  have hb := C.2.1
  simp only [zg_I, zg_R, zg_nil] at hl
  have hl : lv_has ls 5 [(0, va_rf a0), (1, .int a1), (2, va_rf a2), (3, .int a3), (4, .int a4)] := hl
  refine rk_rf ?_
  unfold fn_J21_inflate
  refine rk_of (fun _ _ _ _ _ k => lr_aload_n hx hb dJ21_inflate_0 rfl (lv_at hl 0 rfl) (lv_iload_n hx hb dJ21_inflate_1 rfl (lv_at hl 1 rfl) (lr_aload_n hx hb dJ21_inflate_2 rfl (lv_at hl 2 rfl) (lv_iload_n hx hb dJ21_inflate_3 rfl (lv_at hl 3 rfl) (lv_iload hx hb dJ21_inflate_4 (lv_at hl 4 rfl) k))))) ?_
  refine rk_callV hX (cl_S (rest := []) C (ct_J8_inflate H a0 a1 a2 a3 a4) (lw_S q515 q516 q111 q517) hd_J8_inflate ⟨(Nat.le_of_ble_eq_true rfl), (Nat.le_of_ble_eq_true rfl)⟩ rfl hl.1 rfl (zw_le zw_nil (Nat.le_of_ble_eq_true rfl)) dJ21_inflate_6) (fun _ => ?_)
  exact rk_top (rf_vret C dJ21_inflate_9)
theorem hd_J5_inflate : yJ5_inflate.cls ≠ "java/lang/invoke/MethodHandle" ∧ yJ5_inflate.cls ≠ "java/lang/invoke/VarHandle" ∧ (parseMethodDescriptor yJ5_inflate.desc).map (fun d => d.parameters.length) = some 0 := by decide +kernel
noncomputable def fn_J5_inflate (K : zm_K) (a0 : zm_R) : zm_M Unit :=
  zm_bnd (zm_bnd (zm_is a0 2) fun _ => fn_J5_isLatin1 K a0) fun v1 =>
  if v1 = 0 then
    zm_ret ()
  else
    zm_bnd (zm_getR a0 2 0) fun v9 =>
    zm_bnd (zm_alen v9) fun v12 =>
    zm_bnd (fn_J8_newBytesFor K v12) fun v13 =>
    zm_bnd (zm_getR a0 2 0) fun v18 =>
    zm_bnd (zm_getI a0 2 3) fun v25 =>
    zm_bnd (fn_J21_inflate K v18 0 v13 0 v25) fun _ =>
    zm_bnd (zm_putF K a0 2 0 (va_rf v13)) fun _ =>
    zm_bnd (zm_putF K a0 2 1 (.int 1)) fun _ =>
    zm_ret ()
theorem ct_J5_inflate {l : Launch} {Ω : zm_W} {K : zm_K} (H : zm_H Ω K) (a0 : zm_R) : zm_Ct l Ω yJ5_inflate (ws_ yJ5_inflate cJ5_inflate 2 (Option.none : Option Jvm.ClassFile.FieldType)) 6 180 [va_rf a0] zm_tvV (fn_J5_inflate K a0) := by
  refine zm_ct H.1 (by decide +kernel) (zl_le (zl_R zl_nil) (Nat.le_of_ble_eq_true rfl)) ?_
  intro p e R s m args below meth c n0 k0 C hX ls hl
  have hx := C.1
  have hb := C.2.1
  simp only [zg_R, zg_nil] at hl
  have hl : lv_has ls 2 [(0, va_rf a0)] := hl
  refine rk_rf ?_
  unfold fn_J5_inflate
  refine rk_of (fun _ _ _ _ _ k => lr_aload_n hx hb dJ5_inflate_0 rfl (lv_at hl 0 rfl) k) ?_
  refine rk_callI hX (cl_U (n := 0) (rest := []) (av := []) C (hc_J6 H) (ct_J5_isLatin1 H a0) (lw_meth q463) q108 q459 (C.2.2.2.1 _ q461) (va_Decl.of (C.2.2.2.1 _ q460) (C.2.2.2.1 _ q463)) (C.2.2.2.1 _ q462) q460 (by decide +kernel) ⟨(Nat.le_of_ble_eq_true rfl), (Nat.le_of_ble_eq_true rfl)⟩ rfl hl.1 rfl (zw_le zw_nil (Nat.le_of_ble_eq_true rfl)) dJ5_inflate_1) (fun v1 => ?_)
  refine rk_ite (fun _ _ _ _ _ k1 k2 => lv_if_ne (tgt := 8) hx hb dJ5_inflate_4 (by decide) k2 k1) (fun c_4 => ?_) (fun c_4 => ?_)
  · exact rk_top (rf_vret C dJ5_inflate_7)
  · refine rk_of (fun _ _ _ _ _ k => lr_aload_n hx hb dJ5_inflate_8 rfl (lv_at hl 0 rfl) k) ?_
    refine rk_get zm_rdR_eq C (hc_J6 H) (k := 0) (Nat.le_of_ble_eq_true rfl) in_J6 q255 (fun _ h => h) dJ5_inflate_9 (fun v9 => ?_)
    refine rk_alen C dJ5_inflate_12 (fun v12 => ?_)
    refine rk_callR hX (cl_S (rest := []) C (ct_J8_newBytesFor H v12) (lw_S q248 q249 q111 q250) hd_J8_newBytesFor ⟨(Nat.le_of_ble_eq_true rfl), (Nat.le_of_ble_eq_true rfl)⟩ rfl hl.1 rfl (zw_le zw_nil (Nat.le_of_ble_eq_true rfl)) dJ5_inflate_13) (fun v13 => ?_)
    refine rk_ofs (fun _ _ _ _ _ k => lr_astore_n hx hb dJ5_inflate_16 rfl hl (Nat.le_of_ble_eq_true rfl) [0] rfl ⟨(by first | exact va_rf_cat _ | rfl), trivial⟩ k) (fun ls hl => ?_)
    refine rk_of (fun _ _ _ _ _ k => lr_aload_n hx hb dJ5_inflate_17 rfl (lv_at hl 1 rfl) k) ?_
    refine rk_get zm_rdR_eq C (hc_J6 H) (k := 0) (Nat.le_of_ble_eq_true rfl) in_J6 q255 (fun _ h => h) dJ5_inflate_18 (fun v18 => ?_)
    refine rk_of (fun _ _ _ _ _ k => lv_iconst (v := 0) hx hb dJ5_inflate_21 rfl (lr_aload_n hx hb dJ5_inflate_22 rfl (lv_at hl 0 rfl) (lv_iconst (v := 0) hx hb dJ5_inflate_23 rfl (lr_aload_n hx hb dJ5_inflate_24 rfl (lv_at hl 1 rfl) k)))) ?_
    refine rk_get zm_rdI_eq C (hc_J6 H) (k := 3) (Nat.le_of_ble_eq_true rfl) in_J6 q259 (fun _ h => h) dJ5_inflate_25 (fun v25 => ?_)
    refine rk_callV hX (cl_S (rest := []) C (ct_J21_inflate H v18 0 v13 0 v25) (lw_S q512 q513 q128 q514) hd_J21_inflate ⟨(Nat.le_of_ble_eq_true rfl), (Nat.le_of_ble_eq_true rfl)⟩ rfl hl.1 rfl (zw_le zw_nil (Nat.le_of_ble_eq_true rfl)) dJ5_inflate_28) (fun _ => ?_)
    refine rk_of (fun _ _ _ _ _ k => lr_aload_n hx hb dJ5_inflate_31 rfl (lv_at hl 1 rfl) (lr_aload_n hx hb dJ5_inflate_32 rfl (lv_at hl 0 rfl) k)) ?_
    refine rk_put C H.2.2.1 (hc_J6 H) (k := 0) (Nat.le_of_ble_eq_true rfl) in_J6 (ty0 := tyJ6) tyJ6_ok nmJ6 q255 (fun _ h => h) (Or.inl rfl) (zn_R rfl _) (zp_R rfl _) dJ5_inflate_33 ?_
    refine rk_of (fun _ _ _ _ _ k => lr_aload_n hx hb dJ5_inflate_36 rfl (lv_at hl 1 rfl) (lv_iconst (v := 1) hx hb dJ5_inflate_37 rfl k)) ?_
    refine rk_put C H.2.2.1 (hc_J6 H) (k := 1) (Nat.le_of_ble_eq_true rfl) in_J6 (ty0 := tyJ6) tyJ6_ok nmJ6 q256 (fun _ h => h) (Or.inl rfl) rfl rfl dJ5_inflate_38 ?_
    exact rk_top (rf_vret C dJ5_inflate_41)
theorem hd_J5_inflateIfNeededFor : yJ5_inflateIfNeededFor.cls ≠ "java/lang/invoke/MethodHandle" ∧ yJ5_inflateIfNeededFor.cls ≠ "java/lang/invoke/VarHandle" ∧ (parseMethodDescriptor yJ5_inflateIfNeededFor.desc).map (fun d => d.parameters.length) = some 1 := by decide +kernel
noncomputable def fn_J5_inflateIfNeededFor (K : zm_K) (a0 : zm_R) (a1 : zm_R) : zm_M Unit :=
  if (1 : Int32) = 0 then
    zm_ret ()
  else
    zm_bnd (zm_getI a0 2 1) fun v7 =>
    zm_bnd (zm_bnd (zm_is a1 3) fun _ => fn_J7_coder K a1) fun v11 =>
    if v7 = v11 then
      zm_ret ()
    else
      zm_bnd (zm_bnd (zm_is a0 2) fun _ => fn_J5_inflate K a0) fun _ =>
      zm_ret ()
theorem ct_J5_inflateIfNeededFor {l : Launch} {Ω : zm_W} {K : zm_K} (H : zm_H Ω K) (a0 : zm_R) (a1 : zm_R) : zm_Ct l Ω yJ5_inflateIfNeededFor (ws_ yJ5_inflateIfNeededFor cJ5_inflateIfNeededFor 2 (Option.none : Option Jvm.ClassFile.FieldType)) 7 201 [va_rf a0, va_rf a1] zm_tvV (fn_J5_inflateIfNeededFor K a0 a1) := by
  refine zm_ct H.1 (by decide +kernel) (zl_le (zl_R (zl_R zl_nil)) (Nat.le_of_ble_eq_true rfl)) ?_
  intro p e R s m args below meth c n0 k0 C hX ls hl
  have hx := C.1
  have hb := C.2.1
  simp only [zg_R, zg_nil] at hl
  have hl : lv_has ls 2 [(0, va_rf a0), (1, va_rf a1)] := hl
  refine rk_rf ?_
  unfold fn_J5_inflateIfNeededFor
  refine rk_gets C (zh_it1 H) q246 (fun _ h => h) dJ5_inflateIfNeededFor_0 ?_
  refine rk_ite (fun _ _ _ _ _ k1 k2 => lv_if_eq (tgt := 21) hx hb dJ5_inflateIfNeededFor_3 (by decide) k1 k2) (fun c_3 => ?_) (fun c_3 => ?_)
  · exact rk_top (rf_vret C dJ5_inflateIfNeededFor_21)
  · refine rk_of (fun _ _ _ _ _ k => lr_aload_n hx hb dJ5_inflateIfNeededFor_6 rfl (lv_at hl 0 rfl) k) ?_
    refine rk_get zm_rdI_eq C (hc_J6 H) (k := 1) (Nat.le_of_ble_eq_true rfl) in_J6 q256 (fun _ h => h) dJ5_inflateIfNeededFor_7 (fun v7 => ?_)
    refine rk_of (fun _ _ _ _ _ k => lr_aload_n hx hb dJ5_inflateIfNeededFor_10 rfl (lv_at hl 1 rfl) k) ?_
    refine rk_callI hX (cl_V (rest := [.int v7]) (av := []) C (hc_J7 H) (ct_J7_coder H a1) (lw_V q507 q495 q496 q110 q497) ⟨rfl, hd_J7_coder⟩ ⟨(Nat.le_of_ble_eq_true rfl), (Nat.le_of_ble_eq_true rfl)⟩ rfl hl.1 rfl (zw_le (zw_I zw_nil) (Nat.le_of_ble_eq_true rfl)) dJ5_inflateIfNeededFor_11) (fun v11 => ?_)
    refine rk_ite (fun _ _ _ _ _ k1 k2 => lv_icmp_eq (tgt := 21) hx hb dJ5_inflateIfNeededFor_14 (by decide) k1 k2) (fun c_14 => ?_) (fun c_14 => ?_)
    · exact rk_top (rf_vret C dJ5_inflateIfNeededFor_21)
    · refine rk_of (fun _ _ _ _ _ k => lr_aload_n hx hb dJ5_inflateIfNeededFor_17 rfl (lv_at hl 0 rfl) k) ?_
      refine rk_callV hX (cl_U (n := 0) (rest := []) (av := []) C (hc_J6 H) (ct_J5_inflate H a0) (lw_meth q511) q108 q508 (C.2.2.2.1 _ q3075) (va_Decl.of (C.2.2.2.1 _ q510) (C.2.2.2.1 _ q511)) (zh_up C rfl (zk_selP (by decide +kernel) (zh_w0 H (List.mem_filter.mp q238).1) (zh_w0 H q509) (zh_w0 H (List.mem_filter.mp q510).1) (zh_w0 H (List.mem_filter.mp q462).1) rfl)) q510 (by decide +kernel) ⟨(Nat.le_of_ble_eq_true rfl), (Nat.le_of_ble_eq_true rfl)⟩ rfl hl.1 rfl (zw_le zw_nil (Nat.le_of_ble_eq_true rfl)) dJ5_inflateIfNeededFor_18) (fun _ => ?_)
      exact rk_top (rf_vret C dJ5_inflateIfNeededFor_21)
theorem hd_J7_getBytes : yJ7_getBytes.cls ≠ "java/lang/invoke/MethodHandle" ∧ yJ7_getBytes.cls ≠ "java/lang/invoke/VarHandle" ∧ (parseMethodDescriptor yJ7_getBytes.desc).map (fun d => d.parameters.length) = some 3 := by decide +kernel
noncomputable def fn_J7_getBytes (K : zm_K) (a0 : zm_R) (a1 : zm_R) (a2 : Int32) (a3 : Int32) : zm_M Unit :=
  zm_bnd (zm_bnd (zm_is a0 3) fun _ => fn_J7_coder K a0) fun v1 =>
  if v1 = a3 then
    zm_bnd (zm_getR a0 3 0) fun v9 =>
    zm_bnd (zm_getR a0 3 0) fun v18 =>
    zm_bnd (zm_alen v18) fun v21 =>
    zm_bnd (zm_cpB K v9 0 a1 (a2 <<< (a3 &&& 31)) v21) fun _ =>
    zm_ret ()
  else
    zm_bnd (zm_getR a0 3 0) fun v29 =>
    zm_bnd (zm_getR a0 3 0) fun v36 =>
    zm_bnd (zm_alen v36) fun v39 =>
    zm_bnd (fn_J21_inflate K v29 0 a1 a2 v39) fun _ =>
    zm_ret ()
theorem ct_J7_getBytes {l : Launch} {Ω : zm_W} {K : zm_K} (H : zm_H Ω K) (a0 : zm_R) (a1 : zm_R) (a2 : Int32) (a3 : Int32) : zm_Ct l Ω yJ7_getBytes (ws_ yJ7_getBytes cJ7_getBytes 4 (Option.none : Option Jvm.ClassFile.FieldType)) 6 180 [va_rf a0, va_rf a1, .int a2, .int a3] zm_tvV (fn_J7_getBytes K a0 a1 a2 a3) := by
  refine zm_ct H.1 (by decide +kernel) (zl_le (zl_R (zl_R (zl_I (zl_I zl_nil)))) (Nat.le_of_ble_eq_true rfl)) ?_
  intro p e R s m args below meth c n0 k0 C hX ls hl
  have hx := C.1
  have hb := C.2.1
  simp only [zg_I, zg_R, zg_nil] at hl
  have hl : lv_has ls 4 [(0, va_rf a0), (1, va_rf a1), (2, .int a2), (3, .int a3)] := hl
  refine rk_rf ?_
  unfold fn_J7_getBytes
  refine rk_of (fun _ _ _ _ _ k => lr_aload_n hx hb dJ7_getBytes_0 rfl (lv_at hl 0 rfl) k) ?_
  refine rk_callI hX (cl_V (rest := []) (av := []) C (hc_J7 H) (ct_J7_coder H a0) (lw_V q494 q495 q496 q110 q497) ⟨rfl, hd_J7_coder⟩ ⟨(Nat.le_of_ble_eq_true rfl), (Nat.le_of_ble_eq_true rfl)⟩ rfl hl.1 rfl (zw_le zw_nil (Nat.le_of_ble_eq_true rfl)) dJ7_getBytes_1) (fun v1 => ?_)
  refine rk_ite (fun _ _ _ _ _ k1 k2 => lv_iload_n hx hb dJ7_getBytes_4 rfl (lv_at hl 3 rfl) (lv_icmp_ne (tgt := 28) hx hb dJ7_getBytes_5 (by decide) k2 k1)) (fun c_5 => ?_) (fun c_5 => ?_)
  · refine rk_of (fun _ _ _ _ _ k => lr_aload_n hx hb dJ7_getBytes_8 rfl (lv_at hl 0 rfl) k) ?_
    refine rk_get zm_rdR_eq C (hc_J7 H) (k := 0) (Nat.le_of_ble_eq_true rfl) in_J7 q648 (fun _ h => h) dJ7_getBytes_9 (fun v9 => ?_)
    refine rk_of (fun _ _ _ _ _ k => lv_iconst (v := 0) hx hb dJ7_getBytes_12 rfl (lr_aload_n hx hb dJ7_getBytes_13 rfl (lv_at hl 1 rfl) (lv_iload_n hx hb dJ7_getBytes_14 rfl (lv_at hl 2 rfl) (lv_iload_n hx hb dJ7_getBytes_15 rfl (lv_at hl 3 rfl) (lv_ishl hx hb dJ7_getBytes_16 (lr_aload_n hx hb dJ7_getBytes_17 rfl (lv_at hl 0 rfl) k)))))) ?_
    refine rk_get zm_rdR_eq C (hc_J7 H) (k := 0) (Nat.le_of_ble_eq_true rfl) in_J7 q648 (fun _ h => h) dJ7_getBytes_18 (fun v18 => ?_)
    refine rk_alen C dJ7_getBytes_21 (fun v21 => ?_)
    refine rk_cpB C H.2.2.1 hl.1 q531 q458 q457 q124 (Nat.le_of_ble_eq_true rfl) (zw_ad zw_nil (Nat.le_of_ble_eq_true rfl)) dJ7_getBytes_22 ?_
    refine rk_of (fun _ _ _ _ _ k => lv_goto (tgt := 43) hx hb dJ7_getBytes_25 (by decide) k) ?_
    exact rk_top (rf_vret C dJ7_getBytes_43)
  · refine rk_of (fun _ _ _ _ _ k => lr_aload_n hx hb dJ7_getBytes_28 rfl (lv_at hl 0 rfl) k) ?_
    refine rk_get zm_rdR_eq C (hc_J7 H) (k := 0) (Nat.le_of_ble_eq_true rfl) in_J7 q648 (fun _ h => h) dJ7_getBytes_29 (fun v29 => ?_)
    refine rk_of (fun _ _ _ _ _ k => lv_iconst (v := 0) hx hb dJ7_getBytes_32 rfl (lr_aload_n hx hb dJ7_getBytes_33 rfl (lv_at hl 1 rfl) (lv_iload_n hx hb dJ7_getBytes_34 rfl (lv_at hl 2 rfl) (lr_aload_n hx hb dJ7_getBytes_35 rfl (lv_at hl 0 rfl) k)))) ?_
    refine rk_get zm_rdR_eq C (hc_J7 H) (k := 0) (Nat.le_of_ble_eq_true rfl) in_J7 q648 (fun _ h => h) dJ7_getBytes_36 (fun v36 => ?_)
    refine rk_alen C dJ7_getBytes_39 (fun v39 => ?_)
    refine rk_callV hX (cl_S (rest := []) C (ct_J21_inflate H v29 0 a1 a2 v39) (lw_S q532 q513 q128 q514) hd_J21_inflate ⟨(Nat.le_of_ble_eq_true rfl), (Nat.le_of_ble_eq_true rfl)⟩ rfl hl.1 rfl (zw_le zw_nil (Nat.le_of_ble_eq_true rfl)) dJ7_getBytes_40) (fun _ => ?_)
    exact rk_top (rf_vret C dJ7_getBytes_43)
theorem hd_J5_putStringAt : yJ5_putStringAt.cls ≠ "java/lang/invoke/MethodHandle" ∧ yJ5_putStringAt.cls ≠ "java/lang/invoke/VarHandle" ∧ (parseMethodDescriptor yJ5_putStringAt.desc).map (fun d => d.parameters.length) = some 2 := by decide +kernel
noncomputable def fn_J5_putStringAt (K : zm_K) (a0 : zm_R) (a1 : Int32) (a2 : zm_R) : zm_M Unit :=
  zm_bnd (zm_bnd (zm_is a0 2) fun _ => fn_J5_inflateIfNeededFor K a0 a2) fun _ =>
  zm_bnd (zm_getR a0 2 0) fun v7 =>
  zm_bnd (zm_getI a0 2 1) fun v12 =>
  zm_bnd (zm_bnd (zm_is a2 3) fun _ => fn_J7_getBytes K a2 v7 a1 v12) fun _ =>
  zm_ret ()
theorem ct_J5_putStringAt {l : Launch} {Ω : zm_W} {K : zm_K} (H : zm_H Ω K) (a0 : zm_R) (a1 : Int32) (a2 : zm_R) : zm_Ct l Ω yJ5_putStringAt (ws_ yJ5_putStringAt cJ5_putStringAt 3 (Option.none : Option Jvm.ClassFile.FieldType)) 8 222 [va_rf a0, .int a1, va_rf a2] zm_tvV (fn_J5_putStringAt K a0 a1 a2) := by
  refine zm_ct H.1 (by decide +kernel) (zl_le (zl_R (zl_I (zl_R zl_nil))) (Nat.le_of_ble_eq_true rfl)) ?_
  intro p e R s m args below meth c n0 k0 C hX ls hl
  have hx := C.1
  have hb := C.2.1
  simp only [zg_I, zg_R, zg_nil] at hl
  have hl : lv_has ls 3 [(0, va_rf a0), (1, .int a1), (2, va_rf a2)] := hl
  refine rk_rf ?_
  unfold fn_J5_putStringAt
  refine rk_of (fun _ _ _ _ _ k => lr_aload_n hx hb dJ5_putStringAt_0 rfl (lv_at hl 0 rfl) (lr_aload_n hx hb dJ5_putStringAt_1 rfl (lv_at hl 2 rfl) k)) ?_
  refine rk_callV hX (cl_U (n := 1) (rest := []) (av := [va_rf a2]) C (hc_J6 H) (ct_J5_inflateIfNeededFor H a0 a2) (lw_meth q506) q108 q503 (C.2.2.2.1 _ q3074) (va_Decl.of (C.2.2.2.1 _ q505) (C.2.2.2.1 _ q506)) (zh_up C rfl (zk_selP (by decide +kernel) (zh_w0 H (List.mem_filter.mp q238).1) (zh_w0 H q504) (zh_w0 H (List.mem_filter.mp q505).1) (zh_w0 H (List.mem_filter.mp q462).1) rfl)) q505 (by decide +kernel) ⟨(Nat.le_of_ble_eq_true rfl), (Nat.le_of_ble_eq_true rfl)⟩ rfl hl.1 rfl (zw_le zw_nil (Nat.le_of_ble_eq_true rfl)) dJ5_putStringAt_2) (fun _ => ?_)
  refine rk_of (fun _ _ _ _ _ k => lr_aload_n hx hb dJ5_putStringAt_5 rfl (lv_at hl 2 rfl) (lr_aload_n hx hb dJ5_putStringAt_6 rfl (lv_at hl 0 rfl) k)) ?_
  refine rk_get zm_rdR_eq C (hc_J6 H) (k := 0) (Nat.le_of_ble_eq_true rfl) in_J6 q255 (fun _ h => h) dJ5_putStringAt_7 (fun v7 => ?_)
  refine rk_of (fun _ _ _ _ _ k => lv_iload_n hx hb dJ5_putStringAt_10 rfl (lv_at hl 1 rfl) (lr_aload_n hx hb dJ5_putStringAt_11 rfl (lv_at hl 0 rfl) k)) ?_
  refine rk_get zm_rdI_eq C (hc_J6 H) (k := 1) (Nat.le_of_ble_eq_true rfl) in_J6 q256 (fun _ h => h) dJ5_putStringAt_12 (fun v12 => ?_)
  refine rk_callV hX (cl_V (rest := []) (av := [va_rf v7, .int a1, .int v12]) C (hc_J7 H) (ct_J7_getBytes H a2 v7 a1 v12) (lw_V q527 q528 q529 q110 q530) ⟨rfl, hd_J7_getBytes⟩ ⟨(Nat.le_of_ble_eq_true rfl), (Nat.le_of_ble_eq_true rfl)⟩ rfl hl.1 rfl (zw_le zw_nil (Nat.le_of_ble_eq_true rfl)) dJ5_putStringAt_15) (fun _ => ?_)
  exact rk_top (rf_vret C dJ5_putStringAt_18)
theorem hd_J5_append : yJ5_append.cls ≠ "java/lang/invoke/MethodHandle" ∧ yJ5_append.cls ≠ "java/lang/invoke/VarHandle" ∧ (parseMethodDescriptor yJ5_append.desc).map (fun d => d.parameters.length) = some 1 := by decide +kernel
noncomputable def fn_J5_append (K : zm_K) (a0 : zm_R) (a1 : zm_R) : zm_M zm_R :=
  if a1 = none then
    zm_fl
  else
    zm_bnd (zm_bnd (zm_is a1 3) fun _ => fn_J7_length K a1) fun v10 =>
    zm_bnd (zm_getI a0 2 3) fun v16 =>
    zm_bnd (zm_bnd (zm_is a0 2) fun _ => fn_J5_ensureCapacityInternal K a0 (v16 + v10)) fun _ =>
    zm_bnd (zm_getI a0 2 3) fun v26 =>
    zm_bnd (zm_bnd (zm_is a0 2) fun _ => fn_J5_putStringAt K a0 v26 a1) fun _ =>
    zm_bnd (zm_getI a0 2 3) fun v35 =>
    zm_bnd (zm_putF K a0 2 3 (.int (v35 + v10))) fun _ =>
    zm_ret a0
theorem ct_J5_append {l : Launch} {Ω : zm_W} {K : zm_K} (H : zm_H Ω K) (a0 : zm_R) (a1 : zm_R) : zm_Ct l Ω yJ5_append (ws_ yJ5_append cJ5_append 3 (Option.some (Jvm.ClassFile.FieldType.object "java/lang/AbstractStringBuilder"))) 9 244 [va_rf a0, va_rf a1] zm_tvR (fn_J5_append K a0 a1) := by
  refine zm_ct H.1 (by decide +kernel) (zl_le (zl_R (zl_R zl_nil)) (Nat.le_of_ble_eq_true rfl)) ?_
  intro p e R s m args below meth c n0 k0 C hX ls hl
  have hx := C.1
  have hb := C.2.1
  simp only [zg_R, zg_nil] at hl
  have hl : lv_has ls 3 [(0, va_rf a0), (1, va_rf a1)] := hl
  refine rk_rf ?_
  unfold fn_J5_append
  refine rk_ite (fun _ _ _ _ _ k1 k2 => lr_aload_n hx hb dJ5_append_0 rfl (lv_at hl 1 rfl) (lr_ifnonnull (tgt := 9) hx hb dJ5_append_1 (by decide) k2 k1)) (fun c_1 => ?_) (fun c_1 => ?_)
  · refine rk_of (fun _ _ _ _ _ k => lr_aload_n hx hb dJ5_append_4 rfl (lv_at hl 0 rfl) k) ?_
    exact rk_fl
  · refine rk_of (fun _ _ _ _ _ k => lr_aload_n hx hb dJ5_append_9 rfl (lv_at hl 1 rfl) k) ?_
    refine rk_callI hX (cl_V (rest := []) (av := []) C (hc_J7 H) (ct_J7_length H a1) (lw_V q490 q491 q492 q110 q493) ⟨rfl, hd_J7_length⟩ ⟨(Nat.le_of_ble_eq_true rfl), (Nat.le_of_ble_eq_true rfl)⟩ rfl hl.1 rfl (zw_le zw_nil (Nat.le_of_ble_eq_true rfl)) dJ5_append_10) (fun v10 => ?_)
    refine rk_ofs (fun _ _ _ _ _ k => lr_istore_n hx hb dJ5_append_13 rfl hl (Nat.le_of_ble_eq_true rfl) [0, 1] rfl ⟨trivial, ⟨(by first | exact va_rf_cat _ | rfl), trivial⟩⟩ k) (fun ls hl => ?_)
    refine rk_of (fun _ _ _ _ _ k => lr_aload_n hx hb dJ5_append_14 rfl (lv_at hl 1 rfl) (lr_aload_n hx hb dJ5_append_15 rfl (lv_at hl 1 rfl) k)) ?_
    refine rk_get zm_rdI_eq C (hc_J6 H) (k := 3) (Nat.le_of_ble_eq_true rfl) in_J6 q259 (fun _ h => h) dJ5_append_16 (fun v16 => ?_)
    refine rk_of (fun _ _ _ _ _ k => lv_iload_n hx hb dJ5_append_19 rfl (lv_at hl 0 rfl) (lv_iadd hx hb dJ5_append_20 k)) ?_
    refine rk_callV hX (cl_U (n := 1) (rest := []) (av := [.int (v16 + v10)]) C (hc_J6 H) (ct_J5_ensureCapacityInternal H a0 (v16 + v10)) (lw_meth q427) q108 q424 (C.2.2.2.1 _ q3071) (va_Decl.of (C.2.2.2.1 _ q426) (C.2.2.2.1 _ q427)) (zh_up C rfl (zk_selP (by decide +kernel) (zh_w0 H (List.mem_filter.mp q238).1) (zh_w0 H q425) (zh_w0 H (List.mem_filter.mp q426).1) (zh_w0 H (List.mem_filter.mp q462).1) rfl)) q426 (by decide +kernel) ⟨(Nat.le_of_ble_eq_true rfl), (Nat.le_of_ble_eq_true rfl)⟩ rfl hl.1 rfl (zw_le zw_nil (Nat.le_of_ble_eq_true rfl)) dJ5_append_21) (fun _ => ?_)
    refine rk_of (fun _ _ _ _ _ k => lr_aload_n hx hb dJ5_append_24 rfl (lv_at hl 1 rfl) (lr_aload_n hx hb dJ5_append_25 rfl (lv_at hl 1 rfl) k)) ?_
    refine rk_get zm_rdI_eq C (hc_J6 H) (k := 3) (Nat.le_of_ble_eq_true rfl) in_J6 q259 (fun _ h => h) dJ5_append_26 (fun v26 => ?_)
    refine rk_of (fun _ _ _ _ _ k => lr_aload_n hx hb dJ5_append_29 rfl (lv_at hl 2 rfl) k) ?_
    refine rk_callV hX (cl_U (n := 2) (rest := []) (av := [.int v26, va_rf a1]) C (hc_J6 H) (ct_J5_putStringAt H a0 v26 a1) (lw_meth q502) q108 q499 (C.2.2.2.1 _ q3073) (va_Decl.of (C.2.2.2.1 _ q501) (C.2.2.2.1 _ q502)) (zh_up C rfl (zk_selP (by decide +kernel) (zh_w0 H (List.mem_filter.mp q238).1) (zh_w0 H q500) (zh_w0 H (List.mem_filter.mp q501).1) (zh_w0 H (List.mem_filter.mp q462).1) rfl)) q501 (by decide +kernel) ⟨(Nat.le_of_ble_eq_true rfl), (Nat.le_of_ble_eq_true rfl)⟩ rfl hl.1 rfl (zw_le zw_nil (Nat.le_of_ble_eq_true rfl)) dJ5_append_30) (fun _ => ?_)
    refine rk_of (fun _ _ _ _ _ k => lr_aload_n hx hb dJ5_append_33 rfl (lv_at hl 1 rfl) (lv_dup hx hb dJ5_append_34 (va_rf_cat _) k)) ?_
    refine rk_get zm_rdI_eq C (hc_J6 H) (k := 3) (Nat.le_of_ble_eq_true rfl) in_J6 q259 (fun _ h => h) dJ5_append_35 (fun v35 => ?_)
    refine rk_of (fun _ _ _ _ _ k => lv_iload_n hx hb dJ5_append_38 rfl (lv_at hl 0 rfl) (lv_iadd hx hb dJ5_append_39 k)) ?_
    refine rk_put C H.2.2.1 (hc_J6 H) (k := 3) (Nat.le_of_ble_eq_true rfl) in_J6 (ty0 := tyJ6) tyJ6_ok nmJ6 q259 (fun _ h => h) (Or.inl rfl) rfl rfl dJ5_append_40 ?_
    refine rk_of (fun _ _ _ _ _ k => lr_aload_n hx hb dJ5_append_43 rfl (lv_at hl 1 rfl) k) ?_
    exact rk_top (rf_aret C (Or.inl ⟨_, rfl⟩) dJ5_append_44)
theorem hd_J6_append : yJ6_append.cls ≠ "java/lang/invoke/MethodHandle" ∧ yJ6_append.cls ≠ "java/lang/invoke/VarHandle" ∧ (parseMethodDescriptor yJ6_append.desc).map (fun d => d.parameters.length) = some 1 := by decide +kernel
noncomputable def fn_J6_append (K : zm_K) (a0 : zm_R) (a1 : zm_R) : zm_M zm_R :=
  zm_bnd (zm_bnd (zm_is a0 2) fun _ => fn_J5_append K a0 a1) fun v2 =>
  zm_ret a0
theorem ct_J6_append {l : Launch} {Ω : zm_W} {K : zm_K} (H : zm_H Ω K) (a0 : zm_R) (a1 : zm_R) : zm_Ct l Ω yJ6_append (ws_ yJ6_append cJ6_append 2 (Option.some (Jvm.ClassFile.FieldType.object "java/lang/StringBuilder"))) 10 266 [va_rf a0, va_rf a1] zm_tvR (fn_J6_append K a0 a1) := by
  refine zm_ct H.1 (by decide +kernel) (zl_le (zl_R (zl_R zl_nil)) (Nat.le_of_ble_eq_true rfl)) ?_
  intro p e R s m args below meth c n0 k0 C hX ls hl
  have hx := C.1
  have hb := C.2.1
  simp only [zg_R, zg_nil] at hl
  have hl : lv_has ls 2 [(0, va_rf a0), (1, va_rf a1)] := hl
  refine rk_rf ?_
  unfold fn_J6_append
  refine rk_of (fun _ _ _ _ _ k => lr_aload_n hx hb dJ6_append_0 rfl (lv_at hl 0 rfl) (lr_aload_n hx hb dJ6_append_1 rfl (lv_at hl 1 rfl) k)) ?_
  refine rk_callR hX (cl_SU (n := 1) (rest := []) (av := [va_rf a1]) C (hc_J6 H) (ct_J5_append H a0 a1) (lw_SU q417 q3069 q268 q418 q108 q419) (by decide +kernel) ⟨(Nat.le_of_ble_eq_true rfl), (Nat.le_of_ble_eq_true rfl)⟩ rfl hl.1 rfl (zw_le zw_nil (Nat.le_of_ble_eq_true rfl)) dJ6_append_2) (fun v2 => ?_)
  refine rk_of (fun _ _ _ _ _ k => lv_pop hx hb dJ6_append_5 (va_rf_cat _) (lr_aload_n hx hb dJ6_append_6 rfl (lv_at hl 0 rfl) k)) ?_
  exact rk_top (rf_aret C (Or.inl ⟨_, rfl⟩) dJ6_append_7)
theorem hd_J5_getValue : yJ5_getValue.cls ≠ "java/lang/invoke/MethodHandle" ∧ yJ5_getValue.cls ≠ "java/lang/invoke/VarHandle" ∧ (parseMethodDescriptor yJ5_getValue.desc).map (fun d => d.parameters.length) = some 0 := by decide +kernel
noncomputable def fn_J5_getValue (K : zm_K) (a0 : zm_R) : zm_M zm_R :=
  zm_bnd (zm_getR a0 2 0) fun v1 =>
  zm_ret v1
theorem ct_J5_getValue {l : Launch} {Ω : zm_W} {K : zm_K} (H : zm_H Ω K) (a0 : zm_R) : zm_Ct l Ω yJ5_getValue (ws_ yJ5_getValue cJ5_getValue 1 (Option.some (Jvm.ClassFile.FieldType.array Jvm.ClassFile.FieldType.byte))) 1 64 [va_rf a0] zm_tvR (fn_J5_getValue K a0) := by
  refine zm_ct H.1 (by decide +kernel) (zl_le (zl_R zl_nil) (Nat.le_of_ble_eq_true rfl)) ?_
  intro p e R s m args below meth c n0 k0 C hX ls hl
  have hx := C.1
  have hb := C.2.1
  simp only [zg_R, zg_nil] at hl
  have hl : lv_has ls 1 [(0, va_rf a0)] := hl
  refine rk_rf ?_
  unfold fn_J5_getValue
  refine rk_of (fun _ _ _ _ _ k => lr_aload_n hx hb dJ5_getValue_0 rfl (lv_at hl 0 rfl) k) ?_
  refine rk_get zm_rdR_eq C (hc_J6 H) (k := 0) (Nat.le_of_ble_eq_true rfl) in_J6 q255 (fun _ h => h) dJ5_getValue_1 (fun v1 => ?_)
  exact rk_top (rf_aret C (Or.inr ⟨_, rfl⟩) dJ5_getValue_4)
theorem hd_J5_length : yJ5_length.cls ≠ "java/lang/invoke/MethodHandle" ∧ yJ5_length.cls ≠ "java/lang/invoke/VarHandle" ∧ (parseMethodDescriptor yJ5_length.desc).map (fun d => d.parameters.length) = some 0 := by decide +kernel
noncomputable def fn_J5_length (K : zm_K) (a0 : zm_R) : zm_M Int32 :=
  zm_bnd (zm_getI a0 2 3) fun v1 =>
  zm_ret v1
theorem ct_J5_length {l : Launch} {Ω : zm_W} {K : zm_K} (H : zm_H Ω K) (a0 : zm_R) : zm_Ct l Ω yJ5_length (ws_ yJ5_length cJ5_length 1 (Option.some Jvm.ClassFile.FieldType.int)) 1 64 [va_rf a0] zm_tvI (fn_J5_length K a0) := by
  refine zm_ct H.1 (by decide +kernel) (zl_le (zl_R zl_nil) (Nat.le_of_ble_eq_true rfl)) ?_
  intro p e R s m args below meth c n0 k0 C hX ls hl
  have hx := C.1
  have hb := C.2.1
  simp only [zg_R, zg_nil] at hl
  have hl : lv_has ls 1 [(0, va_rf a0)] := hl
  refine rk_rf ?_
  unfold fn_J5_length
  refine rk_of (fun _ _ _ _ _ k => lr_aload_n hx hb dJ5_length_0 rfl (lv_at hl 0 rfl) k) ?_
  refine rk_get zm_rdI_eq C (hc_J6 H) (k := 3) (Nat.le_of_ble_eq_true rfl) in_J6 q259 (fun _ h => h) dJ5_length_1 (fun v1 => ?_)
  exact rk_top (rf_iret C rfl dJ5_length_4)
theorem hd_J6_length : yJ6_length.cls ≠ "java/lang/invoke/MethodHandle" ∧ yJ6_length.cls ≠ "java/lang/invoke/VarHandle" ∧ (parseMethodDescriptor yJ6_length.desc).map (fun d => d.parameters.length) = some 0 := by decide +kernel
noncomputable def fn_J6_length (K : zm_K) (a0 : zm_R) : zm_M Int32 :=
  zm_bnd (zm_bnd (zm_is a0 2) fun _ => fn_J5_length K a0) fun v1 =>
  zm_ret v1
theorem ct_J6_length {l : Launch} {Ω : zm_W} {K : zm_K} (H : zm_H Ω K) (a0 : zm_R) : zm_Ct l Ω yJ6_length (ws_ yJ6_length cJ6_length 1 (Option.some Jvm.ClassFile.FieldType.int)) 2 84 [va_rf a0] zm_tvI (fn_J6_length K a0) := by
  refine zm_ct H.1 (by decide +kernel) (zl_le (zl_R zl_nil) (Nat.le_of_ble_eq_true rfl)) ?_
  intro p e R s m args below meth c n0 k0 C hX ls hl
  have hx := C.1
  have hb := C.2.1
  simp only [zg_R, zg_nil] at hl
  have hl : lv_has ls 1 [(0, va_rf a0)] := hl
  refine rk_rf ?_
  unfold fn_J6_length
  refine rk_of (fun _ _ _ _ _ k => lr_aload_n hx hb dJ6_length_0 rfl (lv_at hl 0 rfl) k) ?_
  refine rk_callI hX (cl_SU (n := 0) (rest := []) (av := []) C (hc_J6 H) (ct_J5_length H a0) (lw_SU q583 q579 q268 q578 q108 q584) (by decide +kernel) ⟨(Nat.le_of_ble_eq_true rfl), (Nat.le_of_ble_eq_true rfl)⟩ rfl hl.1 rfl (zw_le zw_nil (Nat.le_of_ble_eq_true rfl)) dJ6_length_1) (fun v1 => ?_)
  exact rk_top (rf_iret C rfl dJ6_length_4)
theorem hd_J17_copyOfRangeByte : yJ17_copyOfRangeByte.cls ≠ "java/lang/invoke/MethodHandle" ∧ yJ17_copyOfRangeByte.cls ≠ "java/lang/invoke/VarHandle" ∧ (parseMethodDescriptor yJ17_copyOfRangeByte.desc).map (fun d => d.parameters.length) = some 3 := by decide +kernel
noncomputable def fn_J17_copyOfRangeByte (K : zm_K) (a0 : zm_R) (a1 : Int32) (a2 : Int32) : zm_M zm_R :=
  zm_fl
theorem ct_J17_copyOfRangeByte {l : Launch} {Ω : zm_W} {K : zm_K} (H : zm_H Ω K) (a0 : zm_R) (a1 : Int32) (a2 : Int32) : zm_Ct l Ω yJ17_copyOfRangeByte (ws_ yJ17_copyOfRangeByte cJ17_copyOfRangeByte 5 (Option.some (Jvm.ClassFile.FieldType.array Jvm.ClassFile.FieldType.byte))) 4 128 [va_rf a0, .int a1, .int a2] zm_tvR (fn_J17_copyOfRangeByte K a0 a1 a2) := by
  refine zm_ct H.1 (by decide +kernel) (zl_le (zl_R (zl_I (zl_I zl_nil))) (Nat.le_of_ble_eq_true rfl)) ?_
  intro p e R s m args below meth c n0 k0 C hX ls hl
  have hx := C.1
  have hb := C.2.1
  simp only [zg_I, zg_R, zg_nil] at hl
  have hl : lv_has ls 5 [(0, va_rf a0), (1, .int a1), (2, .int a2)] := hl
  refine rk_rf ?_
  unfold fn_J17_copyOfRangeByte
  refine rk_of (fun _ _ _ _ _ k => lv_iload_n hx hb dJ17_copyOfRangeByte_0 rfl (lv_at hl 1 rfl) (lv_iload_n hx hb dJ17_copyOfRangeByte_1 rfl (lv_at hl 2 rfl) k)) ?_
  exact rk_fl
theorem hd_J17_copyOfRange : yJ17_copyOfRange.cls ≠ "java/lang/invoke/MethodHandle" ∧ yJ17_copyOfRange.cls ≠ "java/lang/invoke/VarHandle" ∧ (parseMethodDescriptor yJ17_copyOfRange.desc).map (fun d => d.parameters.length) = some 3 := by decide +kernel
noncomputable def fn_J17_copyOfRange (K : zm_K) (a0 : zm_R) (a1 : Int32) (a2 : Int32) : zm_M zm_R :=
  zm_bnx (β := Unit) (
      if a1 = 0 then
        zm_bnd (zm_alen a0) fun v6 =>
        if a2 = v6 then
          zm_bnd (zm_clnB a0) fun v18 =>
          zm_bnd (zm_chk [] [.byte] v18) fun _ =>
          zm_ret (Sum.inr v18)
        else
          zm_ret (Sum.inl ())
      else
        zm_ret (Sum.inl ())
    ) fun (_ : Unit) =>
  zm_bnd (fn_J17_copyOfRangeByte K a0 a1 a2) fun v13 =>
  zm_ret v13
theorem ct_J17_copyOfRange {l : Launch} {Ω : zm_W} {K : zm_K} (H : zm_H Ω K) (a0 : zm_R) (a1 : Int32) (a2 : Int32) : zm_Ct l Ω yJ17_copyOfRange (ws_ yJ17_copyOfRange cJ17_copyOfRange 3 (Option.some (Jvm.ClassFile.FieldType.array Jvm.ClassFile.FieldType.byte))) 5 152 [va_rf a0, .int a1, .int a2] zm_tvR (fn_J17_copyOfRange K a0 a1 a2) := by
  refine zm_ct H.1 (by decide +kernel) (zl_le (zl_R (zl_I (zl_I zl_nil))) (Nat.le_of_ble_eq_true rfl)) ?_
  intro p e R s m args below meth c n0 k0 C hX ls hl
  have hx := C.1
  have hb := C.2.1
  simp only [zg_I, zg_R, zg_nil] at hl
  have hl : lv_has ls 3 [(0, va_rf a0), (1, .int a1), (2, .int a2)] := hl
  refine rk_rf ?_
  unfold fn_J17_copyOfRange
  refine rk_of (fun _ _ _ _ _ k => lv_iload_n hx hb dJ17_copyOfRange_0 rfl (lv_at hl 1 rfl) k) ?_
  refine rk_joinx (β := Unit) (fun (b10 : Unit) ls => lv_has ls 3 [(0, va_rf a0), (1, .int a1), (2, .int a2)]) (fun (b10 : Unit) ls => F0 m 10 ls []) (fun b10 ls hl => ?_) (fun hJ10 => ?_)
  · refine rk_of (fun _ _ _ _ _ k => lr_aload_n hx hb dJ17_copyOfRange_10 rfl (lv_at hl 0 rfl) (lv_iload_n hx hb dJ17_copyOfRange_11 rfl (lv_at hl 1 rfl) (lv_iload_n hx hb dJ17_copyOfRange_12 rfl (lv_at hl 2 rfl) k))) ?_
    refine rk_callR hX (cl_S (rest := []) C (ct_J17_copyOfRangeByte H a0 a1 a2) (lw_S q589 q590 q123 q591) hd_J17_copyOfRangeByte ⟨(Nat.le_of_ble_eq_true rfl), (Nat.le_of_ble_eq_true rfl)⟩ rfl hl.1 rfl (zw_le zw_nil (Nat.le_of_ble_eq_true rfl)) dJ17_copyOfRange_13) (fun v13 => ?_)
    exact rk_top (rf_aret C (Or.inr ⟨_, rfl⟩) dJ17_copyOfRange_16)
  · refine rk_ite (fun _ _ _ _ _ k1 k2 => lv_if_ne (tgt := 10) hx hb dJ17_copyOfRange_1 (by decide) k2 k1) (fun c_1 => ?_) (fun c_1 => ?_)
    · refine rk_of (fun _ _ _ _ _ k => lv_iload_n hx hb dJ17_copyOfRange_4 rfl (lv_at hl 2 rfl) (lr_aload_n hx hb dJ17_copyOfRange_5 rfl (lv_at hl 0 rfl) k)) ?_
      refine rk_alen C dJ17_copyOfRange_6 (fun v6 => ?_)
      refine rk_ite (fun _ _ _ _ _ k1 k2 => lv_icmp_eq (tgt := 17) hx hb dJ17_copyOfRange_7 (by decide) k1 k2) (fun c_7 => ?_) (fun c_7 => ?_)
      · refine rk_of (fun _ _ _ _ _ k => lr_aload_n hx hb dJ17_copyOfRange_17 rfl (lv_at hl 0 rfl) k) ?_
        refine rk_clnB C hl.1 q446 (C.2.2.2.1 _ q447) q448 q449 (C.2.2.2.1 _ q450) (zn_wC H C q451) (Nat.le_of_ble_eq_true rfl) (zw_ad zw_nil (Nat.le_of_ble_eq_true rfl)) dJ17_copyOfRange_18 (fun v18 => ?_)
        refine rk_chk C q452 zc_nil (zp_cons (fun _ _ h => h) zp_nil) dJ17_copyOfRange_21 ?_
        refine rk_inr ?_
        exact rk_top (rf_aret C (Or.inr ⟨_, rfl⟩) dJ17_copyOfRange_24)
      · exact hJ10 () ls (lv_sub hl [0, 1, 2] rfl)
    · exact hJ10 () ls (lv_sub hl [0, 1, 2] rfl)
theorem hd_J8_coderFromArrayLen : yJ8_coderFromArrayLen.cls ≠ "java/lang/invoke/MethodHandle" ∧ yJ8_coderFromArrayLen.cls ≠ "java/lang/invoke/VarHandle" ∧ (parseMethodDescriptor yJ8_coderFromArrayLen.desc).map (fun d => d.parameters.length) = some 2 := by decide +kernel
noncomputable def fn_J8_coderFromArrayLen (K : zm_K) (a0 : zm_R) (a1 : Int32) : zm_M Int32 :=
  zm_bnd (zm_alen a0) fun v2 =>
  zm_bnd (zm_grd (-128 ≤ ((((a1 - v2).toUInt32 >>> ((31).toUInt32 &&& Int32.toUInt32 31)).toInt32).toInt8.toInt32) ∧ ((((a1 - v2).toUInt32 >>> ((31).toUInt32 &&& Int32.toUInt32 31)).toInt32).toInt8.toInt32) ≤ 127)) fun _ =>
  zm_ret ((((a1 - v2).toUInt32 >>> ((31).toUInt32 &&& Int32.toUInt32 31)).toInt32).toInt8.toInt32)
theorem ct_J8_coderFromArrayLen {l : Launch} {Ω : zm_W} {K : zm_K} (H : zm_H Ω K) (a0 : zm_R) (a1 : Int32) : zm_Ct l Ω yJ8_coderFromArrayLen (ws_ yJ8_coderFromArrayLen cJ8_coderFromArrayLen 2 (Option.some Jvm.ClassFile.FieldType.byte)) 1 64 [va_rf a0, .int a1] zm_tvI (fn_J8_coderFromArrayLen K a0 a1) := by
  refine zm_ct H.1 (by decide +kernel) (zl_le (zl_R (zl_I zl_nil)) (Nat.le_of_ble_eq_true rfl)) ?_
  intro p e R s m args below meth c n0 k0 C hX ls hl
  have hx := C.1
  have hb := C.2.1
  simp only [zg_I, zg_R, zg_nil] at hl
  have hl : lv_has ls 2 [(0, va_rf a0), (1, .int a1)] := hl
  refine rk_rf ?_
  unfold fn_J8_coderFromArrayLen
  refine rk_of (fun _ _ _ _ _ k => lv_iload_n hx hb dJ8_coderFromArrayLen_0 rfl (lv_at hl 1 rfl) (lr_aload_n hx hb dJ8_coderFromArrayLen_1 rfl (lv_at hl 0 rfl) k)) ?_
  refine rk_alen C dJ8_coderFromArrayLen_2 (fun v2 => ?_)
  refine rk_of (fun _ _ _ _ _ k => lv_isub hx hb dJ8_coderFromArrayLen_3 (lv_bipush (v := 31) hx hb dJ8_coderFromArrayLen_4 rfl (lv_iushr hx hb dJ8_coderFromArrayLen_6 rfl (lv_i2b hx hb dJ8_coderFromArrayLen_7 rfl k)))) ?_
  refine rk_grd (fun hg_8 => ?_)
  exact rk_top (rf_iret C (zn_B hg_8) dJ8_coderFromArrayLen_8)
theorem hd_J7_init_2 : yJ7_init_2.cls ≠ "java/lang/invoke/MethodHandle" ∧ yJ7_init_2.cls ≠ "java/lang/invoke/VarHandle" ∧ (parseMethodDescriptor yJ7_init_2.desc).map (fun d => d.parameters.length) = some 2 := by decide +kernel
noncomputable def fn_J7_init_2 (K : zm_K) (a0 : zm_R) (a1 : zm_R) (a2 : zm_R) : zm_M Unit :=
  zm_bnd (zm_grd (a0 ≠ none)) fun _ =>
  zm_bnd (zm_bnd (zm_is a1 2) fun _ => fn_J5_getValue K a1) fun v5 =>
  zm_bnd (zm_bnd (zm_is a1 2) fun _ => fn_J6_length K a1) fun v10 =>
  zm_bnd (zm_bnd (zm_is a1 2) fun _ => fn_J5_isLatin1 K a1) fun v16 =>
  if v16 = 0 then
    zm_bnd (α := Unit) (
        if (1 : Int32) = 0 then
          zm_ret ()
        else
          zm_bnd (zm_getI a1 2 2) fun v48 =>
          if v48 = 0 then
            zm_ret ()
          else
            zm_fl
      ) fun (_ : Unit) =>
    zm_bnd (zm_putF K a0 3 1 (.int 1)) fun _ =>
    zm_bnd (fn_J17_copyOfRange K v5 0 (v10 <<< (1 &&& 31))) fun v91 =>
    zm_bnd (zm_putF K a0 3 0 (va_rf v91)) fun _ =>
    zm_ret ()
  else
    zm_bnd (zm_putF K a0 3 1 (.int 0)) fun _ =>
    zm_bnd (fn_J17_copyOfRange K v5 0 v10) fun v32 =>
    zm_bnd (zm_putF K a0 3 0 (va_rf v32)) fun _ =>
    zm_ret ()
theorem ct_J7_init_2 {l : Launch} {Ω : zm_W} {K : zm_K} (H : zm_H Ω K) (a0 : zm_R) (a1 : zm_R) (a2 : zm_R) : zm_Ct l Ω yJ7_init_2 (ws_ yJ7_init_2 cJ7_init_2 5 (Option.none : Option Jvm.ClassFile.FieldType)) 6 174 [va_rf a0, va_rf a1, va_rf a2] zm_tvV (fn_J7_init_2 K a0 a1 a2) := by
  refine zm_ct H.1 (by decide +kernel) (zl_le (zl_R (zl_R (zl_R zl_nil))) (Nat.le_of_ble_eq_true rfl)) ?_
  intro p e R s m args below meth c n0 k0 C hX ls hl
  have hx := C.1
  have hb := C.2.1
  simp only [zg_R, zg_nil] at hl
  have hl : lv_has ls 5 [(0, va_rf a0), (1, va_rf a1), (2, va_rf a2)] := hl
  refine rk_rf ?_
  unfold fn_J7_init_2
  refine rk_of (fun _ _ _ _ _ k => lr_aload_n hx hb dJ7_init_2_0 rfl (lv_at hl 0 rfl) k) ?_
  refine rk_grd (fun hg_1 => ?_)
  refine rk_of (fun _ _ _ _ _ k => zo_init C hl.1 q571 q156 q157 hg_1 (Nat.le_of_ble_eq_true rfl) (zw_le12 zw_nil (Nat.le_of_ble_eq_true rfl)) dJ7_init_2_1 k) ?_
  refine rk_of (fun _ _ _ _ _ k => lr_aload_n hx hb dJ7_init_2_4 rfl (lv_at hl 1 rfl) k) ?_
  refine rk_callR hX (cl_U (n := 0) (rest := []) (av := []) C (hc_J6 H) (ct_J5_getValue H a1) (lw_meth q576) q108 q572 (C.2.2.2.1 _ q574) (va_Decl.of (C.2.2.2.1 _ q573) (C.2.2.2.1 _ q576)) (C.2.2.2.1 _ q575) q573 (by decide +kernel) ⟨(Nat.le_of_ble_eq_true rfl), (Nat.le_of_ble_eq_true rfl)⟩ rfl hl.1 rfl (zw_le zw_nil (Nat.le_of_ble_eq_true rfl)) dJ7_init_2_5) (fun v5 => ?_)
  refine rk_ofs (fun _ _ _ _ _ k => lr_astore_n hx hb dJ7_init_2_8 rfl hl (Nat.le_of_ble_eq_true rfl) [0, 1] rfl ⟨trivial, ⟨trivial, trivial⟩⟩ k) (fun ls hl => ?_)
  refine rk_of (fun _ _ _ _ _ k => lr_aload_n hx hb dJ7_init_2_9 rfl (lv_at hl 2 rfl) k) ?_
  refine rk_callI hX (cl_U (n := 0) (rest := []) (av := []) C (hc_J6 H) (ct_J6_length H a1) (lw_meth q582) q109 q577 (C.2.2.2.1 _ q579) (va_Decl.of (C.2.2.2.1 _ q578) (C.2.2.2.1 _ q584)) (C.2.2.2.1 _ q580) q581 (by decide +kernel) ⟨(Nat.le_of_ble_eq_true rfl), (Nat.le_of_ble_eq_true rfl)⟩ rfl hl.1 rfl (zw_le zw_nil (Nat.le_of_ble_eq_true rfl)) dJ7_init_2_10) (fun v10 => ?_)
  refine rk_ofs (fun _ _ _ _ _ k => lr_istore hx hb dJ7_init_2_13 hl (Nat.le_of_ble_eq_true rfl) [0, 1, 2] rfl ⟨(by first | exact va_rf_cat _ | rfl), ⟨trivial, ⟨trivial, trivial⟩⟩⟩ k) (fun ls hl => ?_)
  refine rk_of (fun _ _ _ _ _ k => lr_aload_n hx hb dJ7_init_2_15 rfl (lv_at hl 3 rfl) k) ?_
  refine rk_callI hX (cl_U (n := 0) (rest := []) (av := []) C (hc_J6 H) (ct_J5_isLatin1 H a1) (lw_meth q463) q108 q585 (C.2.2.2.1 _ q461) (va_Decl.of (C.2.2.2.1 _ q460) (C.2.2.2.1 _ q463)) (C.2.2.2.1 _ q462) q460 (by decide +kernel) ⟨(Nat.le_of_ble_eq_true rfl), (Nat.le_of_ble_eq_true rfl)⟩ rfl hl.1 rfl (zw_le zw_nil (Nat.le_of_ble_eq_true rfl)) dJ7_init_2_16) (fun v16 => ?_)
  refine rk_ite (fun _ _ _ _ _ k1 k2 => lv_if_eq (tgt := 41) hx hb dJ7_init_2_19 (by decide) k1 k2) (fun c_19 => ?_) (fun c_19 => ?_)
  · refine rk_gets C (zh_it1 H) q498 (fun _ h => h) dJ7_init_2_41 ?_
    refine rk_join (β := Unit) (fun (b79 : Unit) ls => lv_has ls 5 [(0, va_rf a0), (3, va_rf v5), (4, .int v10)]) (fun (b79 : Unit) ls => F0 m 79 ls []) (fun b79 ls hl => ?_) (fun hJ79 => ?_)
    · refine rk_of (fun _ _ _ _ _ k => lr_aload_n hx hb dJ7_init_2_79 rfl (lv_at hl 0 rfl) (lv_iconst (v := 1) hx hb dJ7_init_2_80 rfl k)) ?_
      refine rk_put C H.2.2.1 (hc_J7 H) (k := 1) (Nat.le_of_ble_eq_true rfl) in_J7 (ty0 := tyJ7) tyJ7_ok nmJ7 q649 (fun _ h => h) (Or.inr ⟨rfl, rfl, rfl⟩) rfl rfl dJ7_init_2_81 ?_
      refine rk_of (fun _ _ _ _ _ k => lr_aload_n hx hb dJ7_init_2_84 rfl (lv_at hl 0 rfl) (lr_aload_n hx hb dJ7_init_2_85 rfl (lv_at hl 1 rfl) (lv_iconst (v := 0) hx hb dJ7_init_2_86 rfl (lv_iload hx hb dJ7_init_2_87 (lv_at hl 2 rfl) (lv_iconst (v := 1) hx hb dJ7_init_2_89 rfl (lv_ishl hx hb dJ7_init_2_90 k)))))) ?_
      refine rk_callR hX (cl_S (rest := [va_rf a0]) C (ct_J17_copyOfRange H v5 0 (v10 <<< (1 &&& 31))) (lw_S q586 q587 q123 q588) hd_J17_copyOfRange ⟨(Nat.le_of_ble_eq_true rfl), (Nat.le_of_ble_eq_true rfl)⟩ rfl hl.1 rfl (zw_le (zw_R zw_nil) (Nat.le_of_ble_eq_true rfl)) dJ7_init_2_91) (fun v91 => ?_)
      refine rk_put C H.2.2.1 (hc_J7 H) (k := 0) (Nat.le_of_ble_eq_true rfl) in_J7 (ty0 := tyJ7) tyJ7_ok nmJ7 q648 (fun _ h => h) (Or.inr ⟨rfl, rfl, rfl⟩) (zn_R rfl _) (zp_R rfl _) dJ7_init_2_94 ?_
      exact rk_top (rf_vret C dJ7_init_2_97)
    · refine rk_ite (fun _ _ _ _ _ k1 k2 => lv_if_eq (tgt := 79) hx hb dJ7_init_2_44 (by decide) k1 k2) (fun c_44 => ?_) (fun c_44 => ?_)
      · exact hJ79 () ls (lv_sub hl [2, 1, 0] rfl)
      · refine rk_of (fun _ _ _ _ _ k => lr_aload_n hx hb dJ7_init_2_47 rfl (lv_at hl 3 rfl) k) ?_
        refine rk_get zm_rdI_eq C (hc_J6 H) (k := 2) (Nat.le_of_ble_eq_true rfl) in_J6 q258 (fun _ h => h) dJ7_init_2_48 (fun v48 => ?_)
        refine rk_ite (fun _ _ _ _ _ k1 k2 => lv_if_eq (tgt := 79) hx hb dJ7_init_2_51 (by decide) k1 k2) (fun c_51 => ?_) (fun c_51 => ?_)
        · exact hJ79 () ls (lv_sub hl [2, 1, 0] rfl)
        · refine rk_of (fun _ _ _ _ _ k => lr_aload_n hx hb dJ7_init_2_54 rfl (lv_at hl 2 rfl) (lr_aload_n hx hb dJ7_init_2_55 rfl (lv_at hl 1 rfl) (lv_iconst (v := 0) hx hb dJ7_init_2_56 rfl (lv_iload hx hb dJ7_init_2_57 (lv_at hl 0 rfl) k)))) ?_
          exact rk_fl
  · refine rk_of (fun _ _ _ _ _ k => lr_aload_n hx hb dJ7_init_2_22 rfl (lv_at hl 2 rfl) (lv_iconst (v := 0) hx hb dJ7_init_2_23 rfl k)) ?_
    refine rk_put C H.2.2.1 (hc_J7 H) (k := 1) (Nat.le_of_ble_eq_true rfl) in_J7 (ty0 := tyJ7) tyJ7_ok nmJ7 q649 (fun _ h => h) (Or.inr ⟨rfl, rfl, rfl⟩) rfl rfl dJ7_init_2_24 ?_
    refine rk_of (fun _ _ _ _ _ k => lr_aload_n hx hb dJ7_init_2_27 rfl (lv_at hl 2 rfl) (lr_aload_n hx hb dJ7_init_2_28 rfl (lv_at hl 1 rfl) (lv_iconst (v := 0) hx hb dJ7_init_2_29 rfl (lv_iload hx hb dJ7_init_2_30 (lv_at hl 0 rfl) k)))) ?_
    refine rk_callR hX (cl_S (rest := [va_rf a0]) C (ct_J17_copyOfRange H v5 0 v10) (lw_S q586 q587 q123 q588) hd_J17_copyOfRange ⟨(Nat.le_of_ble_eq_true rfl), (Nat.le_of_ble_eq_true rfl)⟩ rfl hl.1 rfl (zw_le (zw_R zw_nil) (Nat.le_of_ble_eq_true rfl)) dJ7_init_2_32) (fun v32 => ?_)
    refine rk_put C H.2.2.1 (hc_J7 H) (k := 0) (Nat.le_of_ble_eq_true rfl) in_J7 (ty0 := tyJ7) tyJ7_ok nmJ7 q648 (fun _ h => h) (Or.inr ⟨rfl, rfl, rfl⟩) (zn_R rfl _) (zp_R rfl _) dJ7_init_2_35 ?_
    refine rk_of (fun _ _ _ _ _ k => lv_goto (tgt := 97) hx hb dJ7_init_2_38 (by decide) k) ?_
    exact rk_top (rf_vret C dJ7_init_2_97)
theorem hd_J7_init : yJ7_init.cls ≠ "java/lang/invoke/MethodHandle" ∧ yJ7_init.cls ≠ "java/lang/invoke/VarHandle" ∧ (parseMethodDescriptor yJ7_init.desc).map (fun d => d.parameters.length) = some 1 := by decide +kernel
noncomputable def fn_J7_init (K : zm_K) (a0 : zm_R) (a1 : zm_R) : zm_M Unit :=
  zm_bnd (zm_bnd (zm_nn a0) fun _ => fn_J7_init_2 K a0 a1 none) fun _ =>
  zm_ret ()
theorem ct_J7_init {l : Launch} {Ω : zm_W} {K : zm_K} (H : zm_H Ω K) (a0 : zm_R) (a1 : zm_R) : zm_Ct l Ω yJ7_init (ws_ yJ7_init cJ7_init 2 (Option.none : Option Jvm.ClassFile.FieldType)) 7 198 [va_rf a0, va_rf a1] zm_tvV (fn_J7_init K a0 a1) := by
  refine zm_ct H.1 (by decide +kernel) (zl_le (zl_R (zl_R zl_nil)) (Nat.le_of_ble_eq_true rfl)) ?_
  intro p e R s m args below meth c n0 k0 C hX ls hl
  have hx := C.1
  have hb := C.2.1
  simp only [zg_R, zg_nil] at hl
  have hl : lv_has ls 2 [(0, va_rf a0), (1, va_rf a1)] := hl
  refine rk_rf ?_
  unfold fn_J7_init
  refine rk_of (fun _ _ _ _ _ k => lr_aload_n hx hb dJ7_init_0 rfl (lv_at hl 0 rfl) (lr_aload_n hx hb dJ7_init_1 rfl (lv_at hl 1 rfl) (lr_null hx hb dJ7_init_2 k))) ?_
  refine rk_callV hX (cl_Ir (rest := []) C (ct_J7_init_2 H a0 a1 none) (lw_meth q570) q110 q568 q569 rfl hd_J7_init_2 ⟨(Nat.le_of_ble_eq_true rfl), (Nat.le_of_ble_eq_true rfl)⟩ rfl hl.1 rfl (zw_le zw_nil (Nat.le_of_ble_eq_true rfl)) dJ7_init_3) (fun _ => ?_)
  exact rk_top (rf_vret C dJ7_init_6)
theorem hd_J6_toString : yJ6_toString.cls ≠ "java/lang/invoke/MethodHandle" ∧ yJ6_toString.cls ≠ "java/lang/invoke/VarHandle" ∧ (parseMethodDescriptor yJ6_toString.desc).map (fun d => d.parameters.length) = some 0 := by decide +kernel
noncomputable def fn_J6_toString (K : zm_K) (a0 : zm_R) : zm_M zm_R :=
  zm_bnd (zm_new 3 [.null, .int 0, .int 0, .int 0]) fun v0 =>
  zm_bnd (fn_J7_init K (some v0) a0) fun _ =>
  zm_ret (some v0)
theorem ct_J6_toString {l : Launch} {Ω : zm_W} {K : zm_K} (H : zm_H Ω K) (a0 : zm_R) : zm_Ct l Ω yJ6_toString (ws_ yJ6_toString cJ6_toString 1 (Option.some (Jvm.ClassFile.FieldType.object "java/lang/String"))) 8 219 [va_rf a0] zm_tvR (fn_J6_toString K a0) := by
  refine zm_ct H.1 (by decide +kernel) (zl_le (zl_R zl_nil) (Nat.le_of_ble_eq_true rfl)) ?_
  intro p e R s m args below meth c n0 k0 C hX ls hl
  have hx := C.1
  have hb := C.2.1
  simp only [zg_R, zg_nil] at hl
  have hl : lv_has ls 1 [(0, va_rf a0)] := hl
  refine rk_rf ?_
  unfold fn_J6_toString
  refine rk_new C (hc_J7 H) in_J7 tyJ7_ok q563 q564 q110 (fs := [.null, .int 0, .int 0, .int 0]) rfl (fun j hj => zdf_J7 j hj) dJ6_toString_0 (fun v0 => ?_)
  refine rk_of (fun _ _ _ _ _ k => lv_dup hx hb dJ6_toString_3 (va_rf_cat _) (lr_aload_n hx hb dJ6_toString_4 rfl (lv_at hl 0 rfl) k)) ?_
  refine rk_callV hX (cl_I (rest := [va_rf (some v0)]) C (ct_J7_init H (some v0) a0) (lw_meth q567) q110 q565 q566 rfl hd_J7_init ⟨(Nat.le_of_ble_eq_true rfl), (Nat.le_of_ble_eq_true rfl)⟩ rfl hl.1 rfl (zw_le (zw_R zw_nil) (Nat.le_of_ble_eq_true rfl)) dJ6_toString_5) (fun _ => ?_)
  exact rk_top (rf_aret C (Or.inl ⟨_, rfl⟩) dJ6_toString_8)
theorem hd_J9_toString : yJ9_toString.cls ≠ "java/lang/invoke/MethodHandle" ∧ yJ9_toString.cls ≠ "java/lang/invoke/VarHandle" ∧ (parseMethodDescriptor yJ9_toString.desc).map (fun d => d.parameters.length) = some 0 := by decide +kernel
noncomputable def fn_J9_toString (K : zm_K) (a0 : zm_R) : zm_M zm_R :=
  zm_bnd (zm_isA a0 (.object "java/lang/Object")) fun _ =>
  zm_fl
theorem ct_J9_toString {l : Launch} {Ω : zm_W} {K : zm_K} (H : zm_H Ω K) (a0 : zm_R) : zm_Ct l Ω yJ9_toString (ws_ yJ9_toString cJ9_toString 3 (Option.some (Jvm.ClassFile.FieldType.object "java/lang/String"))) 11 287 [va_rf a0] zm_tvR (fn_J9_toString K a0) := by
  refine zm_ct H.1 (by decide +kernel) (zl_le (zl_R zl_nil) (Nat.le_of_ble_eq_true rfl)) ?_
  intro p e R s m args below meth c n0 k0 C hX ls hl
  have hx := C.1
  have hb := C.2.1
  simp only [zg_R, zg_nil] at hl
  have hl : lv_has ls 3 [(0, va_rf a0)] := hl
  refine rk_rf ?_
  unfold fn_J9_toString
  refine rk_of (fun _ _ _ _ _ k => lr_aload_n hx hb dJ9_toString_0 rfl (lv_at hl 0 rfl) k) ?_
  refine rk_getC C hl.1 q898 (zh_Dc H C) (C.2.2.2.1 _ q3128) q899 q932 (zh_mi H) (Nat.le_of_ble_eq_true rfl) (zw_ad zw_nil (Nat.le_of_ble_eq_true rfl)) dJ9_toString_1 ?_
  exact rk_fl
theorem hd_J9_init_3 : yJ9_init_3.cls ≠ "java/lang/invoke/MethodHandle" ∧ yJ9_init_3.cls ≠ "java/lang/invoke/VarHandle" ∧ (parseMethodDescriptor yJ9_init_3.desc).map (fun d => d.parameters.length) = some 1 := by decide +kernel
noncomputable def fn_J9_init_3 (K : zm_K) (a0 : zm_R) (a1 : zm_R) : zm_M Unit :=
  zm_bnd (zm_grd (a0 ≠ none)) fun _ =>
  zm_bnd (zm_tb a0 [(5, 0), (8, 0), (12, 0), (13, 0), (14, 2), (15, 0), (16, 2), (17, 2), (21, 0), (28, 0)] fun ci k => zm_putF K a0 ci k (va_rf a0)) fun _ =>
  zm_bnd (zm_tb a0 [(5, 1), (8, 1), (12, 1), (13, 1), (14, 3), (15, 1), (16, 3), (17, 3), (21, 1), (28, 1)] fun ci k => zm_putF K a0 ci k (va_rf (K.2 4))) fun _ =>
  zm_bnd (zm_tb a0 [(5, 2), (8, 2), (12, 2), (13, 2), (14, 5), (15, 2), (16, 5), (17, 5), (21, 2), (28, 2)] fun ci k => zm_putF K a0 ci k (va_rf (K.2 3))) fun _ =>
  zm_bnd (zm_tb a0 [(5, 1), (8, 1), (12, 1), (13, 1), (14, 3), (15, 1), (17, 3), (21, 1), (28, 1)] fun ci k => zm_filF K a0 ci k) fun _ =>
  zm_bnd (α := zm_R) (
      if a1 = none then
        zm_ret none
      else
        zm_bnd (zm_bnd (zm_cls a1) fun ci => if ci = 21 then fn_J9_toString K a1 else if ci = 28 then fn_J9_toString K a1 else if ci = 17 then fn_J9_toString K a1 else if ci = 14 then fn_J9_toString K a1 else if ci = 5 then fn_J9_toString K a1 else if ci = 15 then fn_J9_toString K a1 else if ci = 8 then fn_J9_toString K a1 else if ci = 16 then fn_J9_toString K a1 else if ci = 13 then fn_J9_toString K a1 else if ci = 12 then fn_J9_toString K a1 else zm_fl) fun v38 =>
        zm_ret v38
    ) fun b41 =>
  zm_bnd (zm_tb a0 [(5, 3), (8, 3), (12, 3), (13, 3), (14, 1), (15, 3), (16, 1), (17, 1), (21, 3), (28, 3)] fun ci k => zm_putF K a0 ci k (va_rf b41)) fun _ =>
  zm_bnd (zm_tb a0 [(5, 0), (8, 0), (12, 0), (13, 0), (14, 2), (15, 0), (16, 2), (17, 2), (21, 0), (28, 0)] fun ci k => zm_putF K a0 ci k (va_rf a1)) fun _ =>
  zm_ret ()
theorem ct_J9_init_3 {l : Launch} {Ω : zm_W} {K : zm_K} (H : zm_H Ω K) (a0 : zm_R) (a1 : zm_R) : zm_Ct l Ω yJ9_init_3 (ws_ yJ9_init_3 cJ9_init_3 2 (Option.none : Option Jvm.ClassFile.FieldType)) 12 309 [va_rf a0, va_rf a1] zm_tvV (fn_J9_init_3 K a0 a1) := by
  refine zm_ct H.1 (by decide +kernel) (zl_le (zl_R (zl_R zl_nil)) (Nat.le_of_ble_eq_true rfl)) ?_
  intro p e R s m args below meth c n0 k0 C hX ls hl
  have hx := C.1
  have hb := C.2.1
  simp only [zg_R, zg_nil] at hl
  have hl : lv_has ls 2 [(0, va_rf a0), (1, va_rf a1)] := hl
  refine rk_rf ?_
  unfold fn_J9_init_3
  refine rk_of (fun _ _ _ _ _ k => lr_aload_n hx hb dJ9_init_3_0 rfl (lv_at hl 0 rfl) k) ?_
  refine rk_grd (fun hg_1 => ?_)
  refine rk_of (fun _ _ _ _ _ k => zo_init C hl.1 q383 q156 q157 hg_1 (Nat.le_of_ble_eq_true rfl) (zw_le12 zw_nil (Nat.le_of_ble_eq_true rfl)) dJ9_init_3_1 k) ?_
  refine rk_of (fun _ _ _ _ _ k => lr_aload_n hx hb dJ9_init_3_4 rfl (lv_at hl 0 rfl) (lr_aload_n hx hb dJ9_init_3_5 rfl (lv_at hl 0 rfl) k)) ?_
  refine rk_putT C H.2.2.1 (tb_cons ⟨_, _, _, tyJ12, hc_J12 H, (Nat.le_of_ble_eq_true rfl), in_J12, tyJ12_ok, nmJ12, rfl, rfl⟩ (tb_cons ⟨_, _, _, tyJ19, hc_J19 H, (Nat.le_of_ble_eq_true rfl), in_J19, tyJ19_ok, nmJ19, rfl, rfl⟩ (tb_cons ⟨_, _, _, tyJ26, hc_J26 H, (Nat.le_of_ble_eq_true rfl), in_J26, tyJ26_ok, nmJ26, rfl, rfl⟩ (tb_cons ⟨_, _, _, tyJ28, hc_J28 H, (Nat.le_of_ble_eq_true rfl), in_J28, tyJ28_ok, nmJ28, rfl, rfl⟩ (tb_cons ⟨_, _, _, tyJ29, hc_J29 H, (Nat.le_of_ble_eq_true rfl), in_J29, tyJ29_ok, nmJ29, rfl, rfl⟩ (tb_cons ⟨_, _, _, tyJ30, hc_J30 H, (Nat.le_of_ble_eq_true rfl), in_J30, tyJ30_ok, nmJ30, rfl, rfl⟩ (tb_cons ⟨_, _, _, tyJ31, hc_J31 H, (Nat.le_of_ble_eq_true rfl), in_J31, tyJ31_ok, nmJ31, rfl, rfl⟩ (tb_cons ⟨_, _, _, tyJ32, hc_J32 H, (Nat.le_of_ble_eq_true rfl), in_J32, tyJ32_ok, nmJ32, rfl, rfl⟩ (tb_cons ⟨_, _, _, tyX4, hc_X4 H, (Nat.le_of_ble_eq_true rfl), in_X4, tyX4_ok, nmX4, rfl, rfl⟩ (tb_cons ⟨_, _, _, tyX12, hc_X12 H, (Nat.le_of_ble_eq_true rfl), in_X12, tyX12_ok, nmX12, rfl, rfl⟩ (tb_nil))))))))))) q624 (zn_R rfl _) (zp_R rfl _) dJ9_init_3_6 ?_
  refine rk_of (fun _ _ _ _ _ k => lr_aload_n hx hb dJ9_init_3_9 rfl (lv_at hl 0 rfl) k) ?_
  refine rk_gets C (zh_st4 H) q384 (fun _ h => h) dJ9_init_3_10 ?_
  refine rk_putT C H.2.2.1 (tb_cons ⟨_, _, _, tyJ12, hc_J12 H, (Nat.le_of_ble_eq_true rfl), in_J12, tyJ12_ok, nmJ12, rfl, rfl⟩ (tb_cons ⟨_, _, _, tyJ19, hc_J19 H, (Nat.le_of_ble_eq_true rfl), in_J19, tyJ19_ok, nmJ19, rfl, rfl⟩ (tb_cons ⟨_, _, _, tyJ26, hc_J26 H, (Nat.le_of_ble_eq_true rfl), in_J26, tyJ26_ok, nmJ26, rfl, rfl⟩ (tb_cons ⟨_, _, _, tyJ28, hc_J28 H, (Nat.le_of_ble_eq_true rfl), in_J28, tyJ28_ok, nmJ28, rfl, rfl⟩ (tb_cons ⟨_, _, _, tyJ29, hc_J29 H, (Nat.le_of_ble_eq_true rfl), in_J29, tyJ29_ok, nmJ29, rfl, rfl⟩ (tb_cons ⟨_, _, _, tyJ30, hc_J30 H, (Nat.le_of_ble_eq_true rfl), in_J30, tyJ30_ok, nmJ30, rfl, rfl⟩ (tb_cons ⟨_, _, _, tyJ31, hc_J31 H, (Nat.le_of_ble_eq_true rfl), in_J31, tyJ31_ok, nmJ31, rfl, rfl⟩ (tb_cons ⟨_, _, _, tyJ32, hc_J32 H, (Nat.le_of_ble_eq_true rfl), in_J32, tyJ32_ok, nmJ32, rfl, rfl⟩ (tb_cons ⟨_, _, _, tyX4, hc_X4 H, (Nat.le_of_ble_eq_true rfl), in_X4, tyX4_ok, nmX4, rfl, rfl⟩ (tb_cons ⟨_, _, _, tyX12, hc_X12 H, (Nat.le_of_ble_eq_true rfl), in_X12, tyX12_ok, nmX12, rfl, rfl⟩ (tb_nil))))))))))) q625 (zn_R rfl _) (zp_R rfl _) dJ9_init_3_13 ?_
  refine rk_of (fun _ _ _ _ _ k => lr_aload_n hx hb dJ9_init_3_16 rfl (lv_at hl 0 rfl) k) ?_
  refine rk_gets C (zh_st3 H) q386 (fun _ h => h) dJ9_init_3_17 ?_
  refine rk_putT C H.2.2.1 (tb_cons ⟨_, _, _, tyJ12, hc_J12 H, (Nat.le_of_ble_eq_true rfl), in_J12, tyJ12_ok, nmJ12, rfl, rfl⟩ (tb_cons ⟨_, _, _, tyJ19, hc_J19 H, (Nat.le_of_ble_eq_true rfl), in_J19, tyJ19_ok, nmJ19, rfl, rfl⟩ (tb_cons ⟨_, _, _, tyJ26, hc_J26 H, (Nat.le_of_ble_eq_true rfl), in_J26, tyJ26_ok, nmJ26, rfl, rfl⟩ (tb_cons ⟨_, _, _, tyJ28, hc_J28 H, (Nat.le_of_ble_eq_true rfl), in_J28, tyJ28_ok, nmJ28, rfl, rfl⟩ (tb_cons ⟨_, _, _, tyJ29, hc_J29 H, (Nat.le_of_ble_eq_true rfl), in_J29, tyJ29_ok, nmJ29, rfl, rfl⟩ (tb_cons ⟨_, _, _, tyJ30, hc_J30 H, (Nat.le_of_ble_eq_true rfl), in_J30, tyJ30_ok, nmJ30, rfl, rfl⟩ (tb_cons ⟨_, _, _, tyJ31, hc_J31 H, (Nat.le_of_ble_eq_true rfl), in_J31, tyJ31_ok, nmJ31, rfl, rfl⟩ (tb_cons ⟨_, _, _, tyJ32, hc_J32 H, (Nat.le_of_ble_eq_true rfl), in_J32, tyJ32_ok, nmJ32, rfl, rfl⟩ (tb_cons ⟨_, _, _, tyX4, hc_X4 H, (Nat.le_of_ble_eq_true rfl), in_X4, tyX4_ok, nmX4, rfl, rfl⟩ (tb_cons ⟨_, _, _, tyX12, hc_X12 H, (Nat.le_of_ble_eq_true rfl), in_X12, tyX12_ok, nmX12, rfl, rfl⟩ (tb_nil))))))))))) q626 (zn_R rfl _) (zp_R rfl _) dJ9_init_3_20 ?_
  refine rk_of (fun _ _ _ _ _ k => lr_aload_n hx hb dJ9_init_3_23 rfl (lv_at hl 0 rfl) k) ?_
  refine rk_filT H C (zh_thr H C) (tb_cons ⟨_, _, _, tyJ12, hc_J12 H, (Nat.le_of_ble_eq_true rfl), in_J12, tyJ12_ok, nmJ12, rfl, (C.2.2.2.1 _ q395), (C.2.2.2.1 _ q598)⟩ (tb_cons ⟨_, _, _, tyJ19, hc_J19 H, (Nat.le_of_ble_eq_true rfl), in_J19, tyJ19_ok, nmJ19, rfl, (C.2.2.2.1 _ q368), (C.2.2.2.1 _ q367)⟩ (tb_cons ⟨_, _, _, tyJ26, hc_J26 H, (Nat.le_of_ble_eq_true rfl), in_J26, tyJ26_ok, nmJ26, rfl, (C.2.2.2.1 _ q399), (C.2.2.2.1 _ q789)⟩ (tb_cons ⟨_, _, _, tyJ28, hc_J28 H, (Nat.le_of_ble_eq_true rfl), in_J28, tyJ28_ok, nmJ28, rfl, (C.2.2.2.1 _ q398), (C.2.2.2.1 _ q1358)⟩ (tb_cons ⟨_, _, _, tyJ29, hc_J29 H, (Nat.le_of_ble_eq_true rfl), in_J29, tyJ29_ok, nmJ29, rfl, (C.2.2.2.1 _ q394), (C.2.2.2.1 _ q1388)⟩ (tb_cons ⟨_, _, _, tyJ30, hc_J30 H, (Nat.le_of_ble_eq_true rfl), in_J30, tyJ30_ok, nmJ30, rfl, (C.2.2.2.1 _ q396), (C.2.2.2.1 _ q1932)⟩ (tb_cons ⟨_, _, _, tyJ32, hc_J32 H, (Nat.le_of_ble_eq_true rfl), in_J32, tyJ32_ok, nmJ32, rfl, (C.2.2.2.1 _ q393), (C.2.2.2.1 _ q2523)⟩ (tb_cons ⟨_, _, _, tyX4, hc_X4 H, (Nat.le_of_ble_eq_true rfl), in_X4, tyX4_ok, nmX4, rfl, (C.2.2.2.1 _ q391), (C.2.2.2.1 _ q1155)⟩ (tb_cons ⟨_, _, _, tyX12, hc_X12 H, (Nat.le_of_ble_eq_true rfl), in_X12, tyX12_ok, nmX12, rfl, (C.2.2.2.1 _ q392), (C.2.2.2.1 _ q2147)⟩ (tb_nil)))))))))) q388 (Nat.le_of_ble_eq_true rfl) (zw_ad zw_nil (Nat.le_of_ble_eq_true rfl)) hl.1 dJ9_init_3_24 ?_
  refine rk_of (fun _ _ _ _ _ k => lv_pop hx hb dJ9_init_3_27 (va_rf_cat _) (lr_aload_n hx hb dJ9_init_3_28 rfl (lv_at hl 0 rfl) (lr_aload_n hx hb dJ9_init_3_29 rfl (lv_at hl 1 rfl) k))) ?_
  refine rk_join (β := zm_R) (fun (b41 : zm_R) ls => lv_has ls 2 [(0, va_rf a0), (1, va_rf a1)]) (fun (b41 : zm_R) ls => F0 m 41 ls [va_rf b41, va_rf a0]) (fun b41 ls hl => ?_) (fun hJ41 => ?_)
  · refine rk_putT C H.2.2.1 (tb_cons ⟨_, _, _, tyJ12, hc_J12 H, (Nat.le_of_ble_eq_true rfl), in_J12, tyJ12_ok, nmJ12, rfl, rfl⟩ (tb_cons ⟨_, _, _, tyJ19, hc_J19 H, (Nat.le_of_ble_eq_true rfl), in_J19, tyJ19_ok, nmJ19, rfl, rfl⟩ (tb_cons ⟨_, _, _, tyJ26, hc_J26 H, (Nat.le_of_ble_eq_true rfl), in_J26, tyJ26_ok, nmJ26, rfl, rfl⟩ (tb_cons ⟨_, _, _, tyJ28, hc_J28 H, (Nat.le_of_ble_eq_true rfl), in_J28, tyJ28_ok, nmJ28, rfl, rfl⟩ (tb_cons ⟨_, _, _, tyJ29, hc_J29 H, (Nat.le_of_ble_eq_true rfl), in_J29, tyJ29_ok, nmJ29, rfl, rfl⟩ (tb_cons ⟨_, _, _, tyJ30, hc_J30 H, (Nat.le_of_ble_eq_true rfl), in_J30, tyJ30_ok, nmJ30, rfl, rfl⟩ (tb_cons ⟨_, _, _, tyJ31, hc_J31 H, (Nat.le_of_ble_eq_true rfl), in_J31, tyJ31_ok, nmJ31, rfl, rfl⟩ (tb_cons ⟨_, _, _, tyJ32, hc_J32 H, (Nat.le_of_ble_eq_true rfl), in_J32, tyJ32_ok, nmJ32, rfl, rfl⟩ (tb_cons ⟨_, _, _, tyX4, hc_X4 H, (Nat.le_of_ble_eq_true rfl), in_X4, tyX4_ok, nmX4, rfl, rfl⟩ (tb_cons ⟨_, _, _, tyX12, hc_X12 H, (Nat.le_of_ble_eq_true rfl), in_X12, tyX12_ok, nmX12, rfl, rfl⟩ (tb_nil))))))))))) q623 (zn_R rfl _) (zp_R rfl _) dJ9_init_3_41 ?_
    refine rk_of (fun _ _ _ _ _ k => lr_aload_n hx hb dJ9_init_3_44 rfl (lv_at hl 0 rfl) (lr_aload_n hx hb dJ9_init_3_45 rfl (lv_at hl 1 rfl) k)) ?_
    refine rk_putT C H.2.2.1 (tb_cons ⟨_, _, _, tyJ12, hc_J12 H, (Nat.le_of_ble_eq_true rfl), in_J12, tyJ12_ok, nmJ12, rfl, rfl⟩ (tb_cons ⟨_, _, _, tyJ19, hc_J19 H, (Nat.le_of_ble_eq_true rfl), in_J19, tyJ19_ok, nmJ19, rfl, rfl⟩ (tb_cons ⟨_, _, _, tyJ26, hc_J26 H, (Nat.le_of_ble_eq_true rfl), in_J26, tyJ26_ok, nmJ26, rfl, rfl⟩ (tb_cons ⟨_, _, _, tyJ28, hc_J28 H, (Nat.le_of_ble_eq_true rfl), in_J28, tyJ28_ok, nmJ28, rfl, rfl⟩ (tb_cons ⟨_, _, _, tyJ29, hc_J29 H, (Nat.le_of_ble_eq_true rfl), in_J29, tyJ29_ok, nmJ29, rfl, rfl⟩ (tb_cons ⟨_, _, _, tyJ30, hc_J30 H, (Nat.le_of_ble_eq_true rfl), in_J30, tyJ30_ok, nmJ30, rfl, rfl⟩ (tb_cons ⟨_, _, _, tyJ31, hc_J31 H, (Nat.le_of_ble_eq_true rfl), in_J31, tyJ31_ok, nmJ31, rfl, rfl⟩ (tb_cons ⟨_, _, _, tyJ32, hc_J32 H, (Nat.le_of_ble_eq_true rfl), in_J32, tyJ32_ok, nmJ32, rfl, rfl⟩ (tb_cons ⟨_, _, _, tyX4, hc_X4 H, (Nat.le_of_ble_eq_true rfl), in_X4, tyX4_ok, nmX4, rfl, rfl⟩ (tb_cons ⟨_, _, _, tyX12, hc_X12 H, (Nat.le_of_ble_eq_true rfl), in_X12, tyX12_ok, nmX12, rfl, rfl⟩ (tb_nil))))))))))) q624 (zn_R rfl _) (zp_R rfl _) dJ9_init_3_46 ?_
    exact rk_top (rf_vret C dJ9_init_3_49)
  · refine rk_ite (fun _ _ _ _ _ k1 k2 => lr_ifnonnull (tgt := 37) hx hb dJ9_init_3_30 (by decide) k2 k1) (fun c_30 => ?_) (fun c_30 => ?_)
    · refine rk_of (fun _ _ _ _ _ k => lr_null hx hb dJ9_init_3_33 (lv_goto (tgt := 41) hx hb dJ9_init_3_34 (by decide) k)) ?_
      exact hJ41 none ls (lv_sub hl [0, 1] rfl)
    · refine rk_of (fun _ _ _ _ _ k => lr_aload_n hx hb dJ9_init_3_37 rfl (lv_at hl 1 rfl) k) ?_
      refine rk_callR hX (cl_dsp (fun ci => cl_case (cl_U (n := 0) (rest := [va_rf a0]) (av := []) C (hc_X4 H) (ct_J9_toString H a1) (lw_meth q897) q113 q884 (C.2.2.2.1 _ q886) (va_Decl.of (C.2.2.2.1 _ q885) (C.2.2.2.1 _ q897)) (C.2.2.2.1 _ q887) q885 (by decide +kernel) ⟨(Nat.le_of_ble_eq_true rfl), (Nat.le_of_ble_eq_true rfl)⟩ rfl hl.1 rfl (zw_le (zw_R zw_nil) (Nat.le_of_ble_eq_true rfl)) dJ9_init_3_38) (cl_case (cl_U (n := 0) (rest := [va_rf a0]) (av := []) C (hc_X12 H) (ct_J9_toString H a1) (lw_meth q897) q113 q884 (C.2.2.2.1 _ q886) (va_Decl.of (C.2.2.2.1 _ q885) (C.2.2.2.1 _ q897)) (C.2.2.2.1 _ q888) q885 (by decide +kernel) ⟨(Nat.le_of_ble_eq_true rfl), (Nat.le_of_ble_eq_true rfl)⟩ rfl hl.1 rfl (zw_le (zw_R zw_nil) (Nat.le_of_ble_eq_true rfl)) dJ9_init_3_38) (cl_case (cl_U (n := 0) (rest := [va_rf a0]) (av := []) C (hc_J32 H) (ct_J9_toString H a1) (lw_meth q897) q113 q884 (C.2.2.2.1 _ q886) (va_Decl.of (C.2.2.2.1 _ q885) (C.2.2.2.1 _ q897)) (C.2.2.2.1 _ q889) q885 (by decide +kernel) ⟨(Nat.le_of_ble_eq_true rfl), (Nat.le_of_ble_eq_true rfl)⟩ rfl hl.1 rfl (zw_le (zw_R zw_nil) (Nat.le_of_ble_eq_true rfl)) dJ9_init_3_38) (cl_case (cl_U (n := 0) (rest := [va_rf a0]) (av := []) C (hc_J29 H) (ct_J9_toString H a1) (lw_meth q897) q113 q884 (C.2.2.2.1 _ q886) (va_Decl.of (C.2.2.2.1 _ q885) (C.2.2.2.1 _ q897)) (C.2.2.2.1 _ q890) q885 (by decide +kernel) ⟨(Nat.le_of_ble_eq_true rfl), (Nat.le_of_ble_eq_true rfl)⟩ rfl hl.1 rfl (zw_le (zw_R zw_nil) (Nat.le_of_ble_eq_true rfl)) dJ9_init_3_38) (cl_case (cl_U (n := 0) (rest := [va_rf a0]) (av := []) C (hc_J12 H) (ct_J9_toString H a1) (lw_meth q897) q113 q884 (C.2.2.2.1 _ q886) (va_Decl.of (C.2.2.2.1 _ q885) (C.2.2.2.1 _ q897)) (C.2.2.2.1 _ q891) q885 (by decide +kernel) ⟨(Nat.le_of_ble_eq_true rfl), (Nat.le_of_ble_eq_true rfl)⟩ rfl hl.1 rfl (zw_le (zw_R zw_nil) (Nat.le_of_ble_eq_true rfl)) dJ9_init_3_38) (cl_case (cl_U (n := 0) (rest := [va_rf a0]) (av := []) C (hc_J30 H) (ct_J9_toString H a1) (lw_meth q897) q113 q884 (C.2.2.2.1 _ q886) (va_Decl.of (C.2.2.2.1 _ q885) (C.2.2.2.1 _ q897)) (C.2.2.2.1 _ q892) q885 (by decide +kernel) ⟨(Nat.le_of_ble_eq_true rfl), (Nat.le_of_ble_eq_true rfl)⟩ rfl hl.1 rfl (zw_le (zw_R zw_nil) (Nat.le_of_ble_eq_true rfl)) dJ9_init_3_38) (cl_case (cl_U (n := 0) (rest := [va_rf a0]) (av := []) C (hc_J19 H) (ct_J9_toString H a1) (lw_meth q897) q113 q884 (C.2.2.2.1 _ q886) (va_Decl.of (C.2.2.2.1 _ q885) (C.2.2.2.1 _ q897)) (C.2.2.2.1 _ q893) q885 (by decide +kernel) ⟨(Nat.le_of_ble_eq_true rfl), (Nat.le_of_ble_eq_true rfl)⟩ rfl hl.1 rfl (zw_le (zw_R zw_nil) (Nat.le_of_ble_eq_true rfl)) dJ9_init_3_38) (cl_case (cl_U (n := 0) (rest := [va_rf a0]) (av := []) C (hc_J31 H) (ct_J9_toString H a1) (lw_meth q897) q113 q884 (C.2.2.2.1 _ q886) (va_Decl.of (C.2.2.2.1 _ q885) (C.2.2.2.1 _ q897)) (C.2.2.2.1 _ q894) q885 (by decide +kernel) ⟨(Nat.le_of_ble_eq_true rfl), (Nat.le_of_ble_eq_true rfl)⟩ rfl hl.1 rfl (zw_le (zw_R zw_nil) (Nat.le_of_ble_eq_true rfl)) dJ9_init_3_38) (cl_case (cl_U (n := 0) (rest := [va_rf a0]) (av := []) C (hc_J28 H) (ct_J9_toString H a1) (lw_meth q897) q113 q884 (C.2.2.2.1 _ q886) (va_Decl.of (C.2.2.2.1 _ q885) (C.2.2.2.1 _ q897)) (C.2.2.2.1 _ q895) q885 (by decide +kernel) ⟨(Nat.le_of_ble_eq_true rfl), (Nat.le_of_ble_eq_true rfl)⟩ rfl hl.1 rfl (zw_le (zw_R zw_nil) (Nat.le_of_ble_eq_true rfl)) dJ9_init_3_38) (cl_case (cl_U (n := 0) (rest := [va_rf a0]) (av := []) C (hc_J26 H) (ct_J9_toString H a1) (lw_meth q897) q113 q884 (C.2.2.2.1 _ q886) (va_Decl.of (C.2.2.2.1 _ q885) (C.2.2.2.1 _ q897)) (C.2.2.2.1 _ q896) q885 (by decide +kernel) ⟨(Nat.le_of_ble_eq_true rfl), (Nat.le_of_ble_eq_true rfl)⟩ rfl hl.1 rfl (zw_le (zw_R zw_nil) (Nat.le_of_ble_eq_true rfl)) dJ9_init_3_38) (cl_fl)))))))))))) (fun v38 => ?_)
      exact hJ41 v38 ls (lv_sub hl [0, 1] rfl)
theorem hd_J10_init_3 : yJ10_init_3.cls ≠ "java/lang/invoke/MethodHandle" ∧ yJ10_init_3.cls ≠ "java/lang/invoke/VarHandle" ∧ (parseMethodDescriptor yJ10_init_3.desc).map (fun d => d.parameters.length) = some 1 := by decide +kernel
noncomputable def fn_J10_init_3 (K : zm_K) (a0 : zm_R) (a1 : zm_R) : zm_M Unit :=
  zm_bnd (zm_bnd (zm_nn a0) fun _ => fn_J9_init_3 K a0 a1) fun _ =>
  zm_ret ()
theorem ct_J10_init_3 {l : Launch} {Ω : zm_W} {K : zm_K} (H : zm_H Ω K) (a0 : zm_R) (a1 : zm_R) : zm_Ct l Ω yJ10_init_3 (ws_ yJ10_init_3 cJ10_init_3 2 (Option.none : Option Jvm.ClassFile.FieldType)) 13 330 [va_rf a0, va_rf a1] zm_tvV (fn_J10_init_3 K a0 a1) := by
  refine zm_ct H.1 (by decide +kernel) (zl_le (zl_R (zl_R zl_nil)) (Nat.le_of_ble_eq_true rfl)) ?_
  intro p e R s m args below meth c n0 k0 C hX ls hl
  have hx := C.1
  have hb := C.2.1
  simp only [zg_R, zg_nil] at hl
  have hl : lv_has ls 2 [(0, va_rf a0), (1, va_rf a1)] := hl
  refine rk_rf ?_
  unfold fn_J10_init_3
  refine rk_of (fun _ _ _ _ _ k => lr_aload_n hx hb dJ10_init_3_0 rfl (lv_at hl 0 rfl) (lr_aload_n hx hb dJ10_init_3_1 rfl (lv_at hl 1 rfl) k)) ?_
  refine rk_callV hX (cl_Ir (rest := []) C (ct_J9_init_3 H a0 a1) (lw_meth q883) q113 q881 q882 rfl hd_J9_init_3 ⟨(Nat.le_of_ble_eq_true rfl), (Nat.le_of_ble_eq_true rfl)⟩ rfl hl.1 rfl (zw_le zw_nil (Nat.le_of_ble_eq_true rfl)) dJ10_init_3_2) (fun _ => ?_)
  exact rk_top (rf_vret C dJ10_init_3_5)
theorem hd_J11_init_3 : yJ11_init_3.cls ≠ "java/lang/invoke/MethodHandle" ∧ yJ11_init_3.cls ≠ "java/lang/invoke/VarHandle" ∧ (parseMethodDescriptor yJ11_init_3.desc).map (fun d => d.parameters.length) = some 1 := by decide +kernel
noncomputable def fn_J11_init_3 (K : zm_K) (a0 : zm_R) (a1 : zm_R) : zm_M Unit :=
  zm_bnd (zm_bnd (zm_nn a0) fun _ => fn_J10_init_3 K a0 a1) fun _ =>
  zm_ret ()
theorem ct_J11_init_3 {l : Launch} {Ω : zm_W} {K : zm_K} (H : zm_H Ω K) (a0 : zm_R) (a1 : zm_R) : zm_Ct l Ω yJ11_init_3 (ws_ yJ11_init_3 cJ11_init_3 2 (Option.none : Option Jvm.ClassFile.FieldType)) 14 351 [va_rf a0, va_rf a1] zm_tvV (fn_J11_init_3 K a0 a1) := by
  refine zm_ct H.1 (by decide +kernel) (zl_le (zl_R (zl_R zl_nil)) (Nat.le_of_ble_eq_true rfl)) ?_
  intro p e R s m args below meth c n0 k0 C hX ls hl
  have hx := C.1
  have hb := C.2.1
  simp only [zg_R, zg_nil] at hl
  have hl : lv_has ls 2 [(0, va_rf a0), (1, va_rf a1)] := hl
  refine rk_rf ?_
  unfold fn_J11_init_3
  refine rk_of (fun _ _ _ _ _ k => lr_aload_n hx hb dJ11_init_3_0 rfl (lv_at hl 0 rfl) (lr_aload_n hx hb dJ11_init_3_1 rfl (lv_at hl 1 rfl) k)) ?_
  refine rk_callV hX (cl_Ir (rest := []) C (ct_J10_init_3 H a0 a1) (lw_meth q880) q114 q878 q879 rfl hd_J10_init_3 ⟨(Nat.le_of_ble_eq_true rfl), (Nat.le_of_ble_eq_true rfl)⟩ rfl hl.1 rfl (zw_le zw_nil (Nat.le_of_ble_eq_true rfl)) dJ11_init_3_2) (fun _ => ?_)
  exact rk_top (rf_vret C dJ11_init_3_5)
theorem hd_J26_init_2 : yJ26_init_2.cls ≠ "java/lang/invoke/MethodHandle" ∧ yJ26_init_2.cls ≠ "java/lang/invoke/VarHandle" ∧ (parseMethodDescriptor yJ26_init_2.desc).map (fun d => d.parameters.length) = some 1 := by decide +kernel
noncomputable def fn_J26_init_2 (K : zm_K) (a0 : zm_R) (a1 : zm_R) : zm_M Unit :=
  zm_bnd (zm_bnd (zm_nn a0) fun _ => fn_J11_init_3 K a0 a1) fun _ =>
  zm_ret ()
theorem ct_J26_init_2 {l : Launch} {Ω : zm_W} {K : zm_K} (H : zm_H Ω K) (a0 : zm_R) (a1 : zm_R) : zm_Ct l Ω yJ26_init_2 (ws_ yJ26_init_2 cJ26_init_2 2 (Option.none : Option Jvm.ClassFile.FieldType)) 15 372 [va_rf a0, va_rf a1] zm_tvV (fn_J26_init_2 K a0 a1) := by
  refine zm_ct H.1 (by decide +kernel) (zl_le (zl_R (zl_R zl_nil)) (Nat.le_of_ble_eq_true rfl)) ?_
  intro p e R s m args below meth c n0 k0 C hX ls hl
  have hx := C.1
  have hb := C.2.1
  simp only [zg_R, zg_nil] at hl
  have hl : lv_has ls 2 [(0, va_rf a0), (1, va_rf a1)] := hl
  refine rk_rf ?_
  unfold fn_J26_init_2
  refine rk_of (fun _ _ _ _ _ k => lr_aload_n hx hb dJ26_init_2_0 rfl (lv_at hl 0 rfl) (lr_aload_n hx hb dJ26_init_2_1 rfl (lv_at hl 1 rfl) k)) ?_
  refine rk_callV hX (cl_Ir (rest := []) C (ct_J11_init_3 H a0 a1) (lw_meth q877) q115 q875 q876 rfl hd_J11_init_3 ⟨(Nat.le_of_ble_eq_true rfl), (Nat.le_of_ble_eq_true rfl)⟩ rfl hl.1 rfl (zw_le zw_nil (Nat.le_of_ble_eq_true rfl)) dJ26_init_2_2) (fun _ => ?_)
  exact rk_top (rf_vret C dJ26_init_2_5)
theorem hd_J23_next : yJ23_next.cls ≠ "java/lang/invoke/MethodHandle" ∧ yJ23_next.cls ≠ "java/lang/invoke/VarHandle" ∧ (parseMethodDescriptor yJ23_next.desc).map (fun d => d.parameters.length) = some 0 := by decide +kernel
noncomputable def fn_J23_next (K : zm_K) (a0 : zm_R) : zm_M zm_R :=
  zm_fl
theorem ct_J23_next {l : Launch} {Ω : zm_W} {K : zm_K} (H : zm_H Ω K) (a0 : zm_R) : zm_Ct l Ω yJ23_next (wsW_ yJ23_next cJ23_next 3 (Option.some (Jvm.ClassFile.FieldType.object "java/lang/Object")) [(4, 31, 32, 39)]) 16 393 [va_rf a0] zm_tvR (fn_J23_next K a0) := by
  refine zm_ctW H.1 (by decide +kernel) (zl_le (zl_R zl_nil) (Nat.le_of_ble_eq_true rfl)) ?_
  intro p e R s m args below meth c n0 k0 C hN hT ls hl
  have hx := C.1
  have hb := C.2.1
  simp only [zg_R, zg_nil] at hl
  have hl : lv_has ls 3 [(0, va_rf a0)] := hl
  refine rk_rf ?_
  unfold fn_J23_next
  refine rk_of (fun _ _ _ _ _ k => lr_aload_n hx hb dJ23_next_0 rfl (lv_at hl 0 rfl) k) ?_
  exact rk_fl
theorem hd_J22_checkForComodification : yJ22_checkForComodification.cls ≠ "java/lang/invoke/MethodHandle" ∧ yJ22_checkForComodification.cls ≠ "java/lang/invoke/VarHandle" ∧ (parseMethodDescriptor yJ22_checkForComodification.desc).map (fun d => d.parameters.length) = some 0 := by decide +kernel
noncomputable def fn_J22_checkForComodification (K : zm_K) (a0 : zm_R) : zm_M Unit :=
  zm_bnd (zm_getR a0 9 3) fun v1 =>
  zm_bnd (zm_getI v1 0 0) fun v4 =>
  zm_bnd (zm_getI a0 9 2) fun v8 =>
  if v4 = v8 then
    zm_ret ()
  else
    zm_fl
theorem ct_J22_checkForComodification {l : Launch} {Ω : zm_W} {K : zm_K} (H : zm_H Ω K) (a0 : zm_R) : zm_Ct l Ω yJ22_checkForComodification (ws_ yJ22_checkForComodification cJ22_checkForComodification 1 (Option.none : Option Jvm.ClassFile.FieldType)) 1 64 [va_rf a0] zm_tvV (fn_J22_checkForComodification K a0) := by
  refine zm_ct H.1 (by decide +kernel) (zl_le (zl_R zl_nil) (Nat.le_of_ble_eq_true rfl)) ?_
  intro p e R s m args below meth c n0 k0 C hX ls hl
  have hx := C.1
  have hb := C.2.1
  simp only [zg_R, zg_nil] at hl
  have hl : lv_has ls 1 [(0, va_rf a0)] := hl
  refine rk_rf ?_
  unfold fn_J22_checkForComodification
  refine rk_of (fun _ _ _ _ _ k => lr_aload_n hx hb dJ22_checkForComodification_0 rfl (lv_at hl 0 rfl) k) ?_
  refine rk_get zm_rdR_eq C (hc_J22 H) (k := 3) (Nat.le_of_ble_eq_true rfl) in_J22 q326 (fun _ h => h) dJ22_checkForComodification_1 (fun v1 => ?_)
  refine rk_get zm_rdI_eq C (hc_J2 H) (k := 0) (Nat.le_of_ble_eq_true rfl) in_J2 q185 (u_same (C.2.2.2.1 _ q186)) dJ22_checkForComodification_4 (fun v4 => ?_)
  refine rk_of (fun _ _ _ _ _ k => lr_aload_n hx hb dJ22_checkForComodification_7 rfl (lv_at hl 0 rfl) k) ?_
  refine rk_get zm_rdI_eq C (hc_J22 H) (k := 2) (Nat.le_of_ble_eq_true rfl) in_J22 q325 (fun _ h => h) dJ22_checkForComodification_8 (fun v8 => ?_)
  refine rk_ite (fun _ _ _ _ _ k1 k2 => lv_icmp_eq (tgt := 22) hx hb dJ22_checkForComodification_11 (by decide) k1 k2) (fun c_11 => ?_) (fun c_11 => ?_)
  · exact rk_top (rf_vret C dJ22_checkForComodification_22)
  · exact rk_fl
theorem hd_J22_next : yJ22_next.cls ≠ "java/lang/invoke/MethodHandle" ∧ yJ22_next.cls ≠ "java/lang/invoke/VarHandle" ∧ (parseMethodDescriptor yJ22_next.desc).map (fun d => d.parameters.length) = some 0 := by decide +kernel
noncomputable def fn_J22_next (K : zm_K) (a0 : zm_R) : zm_M zm_R :=
  zm_bnd (zm_bnd (zm_is a0 9) fun _ => fn_J22_checkForComodification K a0) fun _ =>
  zm_bnd (zm_getI a0 9 0) fun v5 =>
  zm_bnd (zm_getR a0 9 3) fun v11 =>
  zm_bnd (zm_getI v11 0 2) fun v14 =>
  if v5 < v14 then
    zm_bnd (zm_getR a0 9 3) fun v29 =>
    zm_bnd (zm_getR v29 0 1) fun v32 =>
    zm_bnd (zm_alen v32) fun v38 =>
    if v5 < v38 then
      zm_bnd (zm_putF K a0 9 0 (.int (v5 + 1))) fun _ =>
      zm_bnd (zm_putF K a0 9 1 (.int v5)) fun _ =>
      zm_bnd (zm_aldR v32 v5) fun v64 =>
      zm_ret v64
    else
      zm_fl
  else
    zm_bnd (zm_new 12 [.null, .null, .null, .null, .null, .int 0]) fun v20 =>
    zm_bnd (fn_J26_init K (some v20)) fun _ =>
    zm_ath (some v20)
theorem ct_J22_next {l : Launch} {Ω : zm_W} {K : zm_K} (H : zm_H Ω K) (a0 : zm_R) : zm_Ct l Ω yJ22_next (ws_ yJ22_next cJ22_next 3 (Option.some (Jvm.ClassFile.FieldType.object "java/lang/Object"))) 8 208 [va_rf a0] zm_tvR (fn_J22_next K a0) := by
  refine zm_ct H.1 (by decide +kernel) (zl_le (zl_R zl_nil) (Nat.le_of_ble_eq_true rfl)) ?_
  intro p e R s m args below meth c n0 k0 C hX ls hl
  have hx := C.1
  have hb := C.2.1
  simp only [zg_R, zg_nil] at hl
  have hl : lv_has ls 3 [(0, va_rf a0)] := hl
  refine rk_rf ?_
  unfold fn_J22_next
  refine rk_of (fun _ _ _ _ _ k => lr_aload_n hx hb dJ22_next_0 rfl (lv_at hl 0 rfl) k) ?_
  refine rk_callV hX (cl_V (rest := []) (av := []) C (hc_J22 H) (ct_J22_checkForComodification H a0) (lw_V q971 q972 q973 q129 q976) ⟨rfl, hd_J22_checkForComodification⟩ ⟨(Nat.le_of_ble_eq_true rfl), (Nat.le_of_ble_eq_true rfl)⟩ rfl hl.1 rfl (zw_le zw_nil (Nat.le_of_ble_eq_true rfl)) dJ22_next_1) (fun _ => ?_)
  refine rk_of (fun _ _ _ _ _ k => lr_aload_n hx hb dJ22_next_4 rfl (lv_at hl 0 rfl) k) ?_
  refine rk_get zm_rdI_eq C (hc_J22 H) (k := 0) (Nat.le_of_ble_eq_true rfl) in_J22 q323 (fun _ h => h) dJ22_next_5 (fun v5 => ?_)
  refine rk_ofs (fun _ _ _ _ _ k => lr_istore_n hx hb dJ22_next_8 rfl hl (Nat.le_of_ble_eq_true rfl) [0] rfl ⟨(by first | exact va_rf_cat _ | rfl), trivial⟩ k) (fun ls hl => ?_)
  refine rk_of (fun _ _ _ _ _ k => lv_iload_n hx hb dJ22_next_9 rfl (lv_at hl 0 rfl) (lr_aload_n hx hb dJ22_next_10 rfl (lv_at hl 1 rfl) k)) ?_
  refine rk_get zm_rdR_eq C (hc_J22 H) (k := 3) (Nat.le_of_ble_eq_true rfl) in_J22 q326 (fun _ h => h) dJ22_next_11 (fun v11 => ?_)
  refine rk_getN zm_rdI_eq C (hc_J2 H) (k := 2) (Nat.le_of_ble_eq_true rfl) in_J2 (zn_wF H C q180) (fun _ h => h) dJ22_next_14 (fun v14 => ?_)
  refine rk_ite (fun _ _ _ _ _ k1 k2 => lv_icmp_lt (tgt := 28) hx hb dJ22_next_17 (by decide) k1 k2) (fun c_17 => ?_) (fun c_17 => ?_)
  · refine rk_of (fun _ _ _ _ _ k => lr_aload_n hx hb dJ22_next_28 rfl (lv_at hl 1 rfl) k) ?_
    refine rk_get zm_rdR_eq C (hc_J22 H) (k := 3) (Nat.le_of_ble_eq_true rfl) in_J22 q326 (fun _ h => h) dJ22_next_29 (fun v29 => ?_)
    refine rk_get zm_rdR_eq C (hc_J2 H) (k := 1) (Nat.le_of_ble_eq_true rfl) in_J2 q179 (fun _ h => h) dJ22_next_32 (fun v32 => ?_)
    refine rk_ofs (fun _ _ _ _ _ k => lr_astore_n hx hb dJ22_next_35 rfl hl (Nat.le_of_ble_eq_true rfl) [0, 1] rfl ⟨rfl, ⟨trivial, trivial⟩⟩ k) (fun ls hl => ?_)
    refine rk_of (fun _ _ _ _ _ k => lv_iload_n hx hb dJ22_next_36 rfl (lv_at hl 1 rfl) (lr_aload_n hx hb dJ22_next_37 rfl (lv_at hl 0 rfl) k)) ?_
    refine rk_alen C dJ22_next_38 (fun v38 => ?_)
    refine rk_ite (fun _ _ _ _ _ k1 k2 => lv_icmp_lt (tgt := 50) hx hb dJ22_next_39 (by decide) k1 k2) (fun c_39 => ?_) (fun c_39 => ?_)
    · refine rk_of (fun _ _ _ _ _ k => lr_aload_n hx hb dJ22_next_50 rfl (lv_at hl 2 rfl) (lv_iload_n hx hb dJ22_next_51 rfl (lv_at hl 1 rfl) (lv_iconst (v := 1) hx hb dJ22_next_52 rfl (lv_iadd hx hb dJ22_next_53 k)))) ?_
      refine rk_put C H.2.2.1 (hc_J22 H) (k := 0) (Nat.le_of_ble_eq_true rfl) in_J22 (ty0 := tyJ22) tyJ22_ok nmJ22 q323 (fun _ h => h) (Or.inl rfl) rfl rfl dJ22_next_54 ?_
      refine rk_of (fun _ _ _ _ _ k => lr_aload_n hx hb dJ22_next_57 rfl (lv_at hl 0 rfl) (lr_aload_n hx hb dJ22_next_58 rfl (lv_at hl 2 rfl) (lv_iload_n hx hb dJ22_next_59 rfl (lv_at hl 1 rfl) (lv_dup_x1 hx hb dJ22_next_60 rfl (va_rf_cat _) k)))) ?_
      refine rk_put C H.2.2.1 (hc_J22 H) (k := 1) (Nat.le_of_ble_eq_true rfl) in_J22 (ty0 := tyJ22) tyJ22_ok nmJ22 q324 (fun _ h => h) (Or.inl rfl) rfl rfl dJ22_next_61 ?_
      refine rk_aald C dJ22_next_64 (fun v64 => ?_)
      exact rk_top (rf_aret C (Or.inl ⟨_, rfl⟩) dJ22_next_65)
    · exact rk_fl
  · refine rk_new C (hc_J26 H) in_J26 tyJ26_ok q977 q787 q134 (fs := [.null, .null, .null, .null, .null, .int 0]) rfl (fun j hj => zdf_J26 j hj) dJ22_next_20 (fun v20 => ?_)
    refine rk_of (fun _ _ _ _ _ k => lv_dup hx hb dJ22_next_23 (va_rf_cat _) k) ?_
    refine rk_callV hX (cl_I (rest := [va_rf (some v20)]) C (ct_J26_init H (some v20)) (lw_meth q797) q134 q978 q796 rfl hd_J26_init ⟨(Nat.le_of_ble_eq_true rfl), (Nat.le_of_ble_eq_true rfl)⟩ rfl hl.1 rfl (zw_le (zw_R zw_nil) (Nat.le_of_ble_eq_true rfl)) dJ22_next_24) (fun _ => ?_)
    exact rk_ath H C hX dJ22_next_27
theorem hd_J25_checkForComodification : yJ25_checkForComodification.cls ≠ "java/lang/invoke/MethodHandle" ∧ yJ25_checkForComodification.cls ≠ "java/lang/invoke/VarHandle" ∧ (parseMethodDescriptor yJ25_checkForComodification.desc).map (fun d => d.parameters.length) = some 0 := by decide +kernel
noncomputable def fn_J25_checkForComodification (K : zm_K) (a0 : zm_R) : zm_M Unit :=
  zm_bnd (zm_getR a0 11 4) fun v1 =>
  zm_bnd (zm_getI v1 1 0) fun v4 =>
  zm_bnd (zm_getI a0 11 3) fun v8 =>
  if v4 = v8 then
    zm_ret ()
  else
    zm_fl
theorem ct_J25_checkForComodification {l : Launch} {Ω : zm_W} {K : zm_K} (H : zm_H Ω K) (a0 : zm_R) : zm_Ct l Ω yJ25_checkForComodification (ws_ yJ25_checkForComodification cJ25_checkForComodification 1 (Option.none : Option Jvm.ClassFile.FieldType)) 1 64 [va_rf a0] zm_tvV (fn_J25_checkForComodification K a0) := by
  refine zm_ct H.1 (by decide +kernel) (zl_le (zl_R zl_nil) (Nat.le_of_ble_eq_true rfl)) ?_
  intro p e R s m args below meth c n0 k0 C hX ls hl
  have hx := C.1
  have hb := C.2.1
  simp only [zg_R, zg_nil] at hl
  have hl : lv_has ls 1 [(0, va_rf a0)] := hl
  refine rk_rf ?_
  unfold fn_J25_checkForComodification
  refine rk_of (fun _ _ _ _ _ k => lr_aload_n hx hb dJ25_checkForComodification_0 rfl (lv_at hl 0 rfl) k) ?_
  refine rk_get zm_rdR_eq C (hc_J25 H) (k := 4) (Nat.le_of_ble_eq_true rfl) in_J25 q719 (fun _ h => h) dJ25_checkForComodification_1 (fun v1 => ?_)
  refine rk_get zm_rdI_eq C (hc_J4 H) (k := 0) (Nat.le_of_ble_eq_true rfl) in_J4 q183 (u_same (C.2.2.2.1 _ q184)) dJ25_checkForComodification_4 (fun v4 => ?_)
  refine rk_of (fun _ _ _ _ _ k => lr_aload_n hx hb dJ25_checkForComodification_7 rfl (lv_at hl 0 rfl) k) ?_
  refine rk_get zm_rdI_eq C (hc_J25 H) (k := 3) (Nat.le_of_ble_eq_true rfl) in_J25 q718 (fun _ h => h) dJ25_checkForComodification_8 (fun v8 => ?_)
  refine rk_ite (fun _ _ _ _ _ k1 k2 => lv_icmp_eq (tgt := 22) hx hb dJ25_checkForComodification_11 (by decide) k1 k2) (fun c_11 => ?_) (fun c_11 => ?_)
  · exact rk_top (rf_vret C dJ25_checkForComodification_22)
  · exact rk_fl
theorem hd_J25_next : yJ25_next.cls ≠ "java/lang/invoke/MethodHandle" ∧ yJ25_next.cls ≠ "java/lang/invoke/VarHandle" ∧ (parseMethodDescriptor yJ25_next.desc).map (fun d => d.parameters.length) = some 0 := by decide +kernel
noncomputable def fn_J25_next (K : zm_K) (a0 : zm_R) : zm_M zm_R :=
  zm_bnd (zm_bnd (zm_is a0 11) fun _ => fn_J25_checkForComodification K a0) fun _ =>
  zm_bnd (zm_bnd (zm_is a0 11) fun _ => fn_J25_hasNext K a0) fun v5 =>
  if v5 = 0 then
    zm_bnd (zm_new 12 [.null, .null, .null, .null, .null, .int 0]) fun v11 =>
    zm_bnd (fn_J26_init K (some v11)) fun _ =>
    zm_ath (some v11)
  else
    zm_bnd (zm_getR a0 11 1) fun v21 =>
    zm_bnd (zm_putF K a0 11 0 (va_rf v21)) fun _ =>
    zm_bnd (zm_getR a0 11 1) fun v29 =>
    zm_bnd (zm_getR v29 7 1) fun v32 =>
    zm_bnd (zm_putF K a0 11 1 (va_rf v32)) fun _ =>
    zm_bnd (zm_getI a0 11 2) fun v40 =>
    zm_bnd (zm_putF K a0 11 2 (.int (v40 + 1))) fun _ =>
    zm_bnd (zm_getR a0 11 0) fun v49 =>
    zm_bnd (zm_getR v49 7 0) fun v52 =>
    zm_ret v52
theorem ct_J25_next {l : Launch} {Ω : zm_W} {K : zm_K} (H : zm_H Ω K) (a0 : zm_R) : zm_Ct l Ω yJ25_next (ws_ yJ25_next cJ25_next 1 (Option.some (Jvm.ClassFile.FieldType.object "java/lang/Object"))) 8 208 [va_rf a0] zm_tvR (fn_J25_next K a0) := by
  refine zm_ct H.1 (by decide +kernel) (zl_le (zl_R zl_nil) (Nat.le_of_ble_eq_true rfl)) ?_
  intro p e R s m args below meth c n0 k0 C hX ls hl
  have hx := C.1
  have hb := C.2.1
  simp only [zg_R, zg_nil] at hl
  have hl : lv_has ls 1 [(0, va_rf a0)] := hl
  refine rk_rf ?_
  unfold fn_J25_next
  refine rk_of (fun _ _ _ _ _ k => lr_aload_n hx hb dJ25_next_0 rfl (lv_at hl 0 rfl) k) ?_
  refine rk_callV hX (cl_V (rest := []) (av := []) C (hc_J25 H) (ct_J25_checkForComodification H a0) (lw_V q986 q987 q988 q133 q989) ⟨rfl, hd_J25_checkForComodification⟩ ⟨(Nat.le_of_ble_eq_true rfl), (Nat.le_of_ble_eq_true rfl)⟩ rfl hl.1 rfl (zw_le zw_nil (Nat.le_of_ble_eq_true rfl)) dJ25_next_1) (fun _ => ?_)
  refine rk_of (fun _ _ _ _ _ k => lr_aload_n hx hb dJ25_next_4 rfl (lv_at hl 0 rfl) k) ?_
  refine rk_callI hX (cl_V (rest := []) (av := []) C (hc_J25 H) (ct_J25_hasNext H a0) (lw_V q990 q769 q3078 q133 q771) ⟨rfl, hd_J25_hasNext⟩ ⟨(Nat.le_of_ble_eq_true rfl), (Nat.le_of_ble_eq_true rfl)⟩ rfl hl.1 rfl (zw_le zw_nil (Nat.le_of_ble_eq_true rfl)) dJ25_next_5) (fun v5 => ?_)
  refine rk_ite (fun _ _ _ _ _ k1 k2 => lv_if_ne (tgt := 19) hx hb dJ25_next_8 (by decide) k2 k1) (fun c_8 => ?_) (fun c_8 => ?_)
  · refine rk_new C (hc_J26 H) in_J26 tyJ26_ok q991 q787 q134 (fs := [.null, .null, .null, .null, .null, .int 0]) rfl (fun j hj => zdf_J26 j hj) dJ25_next_11 (fun v11 => ?_)
    refine rk_of (fun _ _ _ _ _ k => lv_dup hx hb dJ25_next_14 (va_rf_cat _) k) ?_
    refine rk_callV hX (cl_I (rest := [va_rf (some v11)]) C (ct_J26_init H (some v11)) (lw_meth q797) q134 q992 q796 rfl hd_J26_init ⟨(Nat.le_of_ble_eq_true rfl), (Nat.le_of_ble_eq_true rfl)⟩ rfl hl.1 rfl (zw_le (zw_R zw_nil) (Nat.le_of_ble_eq_true rfl)) dJ25_next_15) (fun _ => ?_)
    exact rk_ath H C hX dJ25_next_18
  · refine rk_of (fun _ _ _ _ _ k => lr_aload_n hx hb dJ25_next_19 rfl (lv_at hl 0 rfl) (lr_aload_n hx hb dJ25_next_20 rfl (lv_at hl 0 rfl) k)) ?_
    refine rk_get zm_rdR_eq C (hc_J25 H) (k := 1) (Nat.le_of_ble_eq_true rfl) in_J25 q716 (fun _ h => h) dJ25_next_21 (fun v21 => ?_)
    refine rk_put C H.2.2.1 (hc_J25 H) (k := 0) (Nat.le_of_ble_eq_true rfl) in_J25 (ty0 := tyJ25) tyJ25_ok nmJ25 q715 (fun _ h => h) (Or.inl rfl) (zn_R rfl _) (zp_R rfl _) dJ25_next_24 ?_
    refine rk_of (fun _ _ _ _ _ k => lr_aload_n hx hb dJ25_next_27 rfl (lv_at hl 0 rfl) (lr_aload_n hx hb dJ25_next_28 rfl (lv_at hl 0 rfl) k)) ?_
    refine rk_get zm_rdR_eq C (hc_J25 H) (k := 1) (Nat.le_of_ble_eq_true rfl) in_J25 q716 (fun _ h => h) dJ25_next_29 (fun v29 => ?_)
    refine rk_get zm_rdR_eq C (hc_J18 H) (k := 1) (Nat.le_of_ble_eq_true rfl) in_J18 q1251 (fun _ h => h) dJ25_next_32 (fun v32 => ?_)
    refine rk_put C H.2.2.1 (hc_J25 H) (k := 1) (Nat.le_of_ble_eq_true rfl) in_J25 (ty0 := tyJ25) tyJ25_ok nmJ25 q716 (fun _ h => h) (Or.inl rfl) (zn_R rfl _) (zp_R rfl _) dJ25_next_35 ?_
    refine rk_of (fun _ _ _ _ _ k => lr_aload_n hx hb dJ25_next_38 rfl (lv_at hl 0 rfl) (lv_dup hx hb dJ25_next_39 (va_rf_cat _) k)) ?_
    refine rk_get zm_rdI_eq C (hc_J25 H) (k := 2) (Nat.le_of_ble_eq_true rfl) in_J25 q717 (fun _ h => h) dJ25_next_40 (fun v40 => ?_)
    refine rk_of (fun _ _ _ _ _ k => lv_iconst (v := 1) hx hb dJ25_next_43 rfl (lv_iadd hx hb dJ25_next_44 k)) ?_
    refine rk_put C H.2.2.1 (hc_J25 H) (k := 2) (Nat.le_of_ble_eq_true rfl) in_J25 (ty0 := tyJ25) tyJ25_ok nmJ25 q717 (fun _ h => h) (Or.inl rfl) rfl rfl dJ25_next_45 ?_
    refine rk_of (fun _ _ _ _ _ k => lr_aload_n hx hb dJ25_next_48 rfl (lv_at hl 0 rfl) k) ?_
    refine rk_get zm_rdR_eq C (hc_J25 H) (k := 0) (Nat.le_of_ble_eq_true rfl) in_J25 q715 (fun _ h => h) dJ25_next_49 (fun v49 => ?_)
    refine rk_get zm_rdR_eq C (hc_J18 H) (k := 0) (Nat.le_of_ble_eq_true rfl) in_J18 q1248 (fun _ h => h) dJ25_next_52 (fun v52 => ?_)
    exact rk_top (rf_aret C (Or.inl ⟨_, rfl⟩) dJ25_next_55)
theorem hd_X6_init : yX6_init.cls ≠ "java/lang/invoke/MethodHandle" ∧ yX6_init.cls ≠ "java/lang/invoke/VarHandle" ∧ (parseMethodDescriptor yX6_init.desc).map (fun d => d.parameters.length) = some 3 := by decide +kernel
noncomputable def fn_X6_init (K : zm_K) (a0 : zm_R) (a1 : Int32) (a2 : Int32) (a3 : zm_R) : zm_M Unit :=
  zm_bnd (zm_grd (a0 ≠ none)) fun _ =>
  zm_bnd (zm_putF K a0 23 0 (.int a1)) fun _ =>
  zm_bnd (zm_putF K a0 23 1 (.int a2)) fun _ =>
  zm_bnd (zm_putF K a0 23 2 (va_rf a3)) fun _ =>
  zm_ret ()
theorem ct_X6_init {l : Launch} {Ω : zm_W} {K : zm_K} (H : zm_H Ω K) (a0 : zm_R) (a1 : Int32) (a2 : Int32) (a3 : zm_R) : zm_Ct l Ω yX6_init (ws_ yX6_init cX6_init 4 (Option.none : Option Jvm.ClassFile.FieldType)) 2 84 [va_rf a0, .int a1, .int a2, va_rf a3] zm_tvV (fn_X6_init K a0 a1 a2 a3) := by
  refine zm_ct H.1 (by decide +kernel) (zl_le (zl_R (zl_I (zl_I (zl_R zl_nil)))) (Nat.le_of_ble_eq_true rfl)) ?_
  intro p e R s m args below meth c n0 k0 C hX ls hl
  have hx := C.1
  have hb := C.2.1
  simp only [zg_I, zg_R, zg_nil] at hl
  have hl : lv_has ls 4 [(0, va_rf a0), (1, .int a1), (2, .int a2), (3, va_rf a3)] := hl
  refine rk_rf ?_
  unfold fn_X6_init
  refine rk_of (fun _ _ _ _ _ k => lr_aload_n hx hb dX6_init_0 rfl (lv_at hl 0 rfl) k) ?_
  refine rk_grd (fun hg_1 => ?_)
  refine rk_of (fun _ _ _ _ _ k => zo_init C hl.1 q1319 q156 q157 hg_1 (Nat.le_of_ble_eq_true rfl) (zw_le12 zw_nil (Nat.le_of_ble_eq_true rfl)) dX6_init_1 k) ?_
  refine rk_of (fun _ _ _ _ _ k => lr_aload_n hx hb dX6_init_4 rfl (lv_at hl 0 rfl) (lv_iload_n hx hb dX6_init_5 rfl (lv_at hl 1 rfl) k)) ?_
  refine rk_put C H.2.2.1 (hc_X6 H) (k := 0) (Nat.le_of_ble_eq_true rfl) in_X6 (ty0 := tyX6) tyX6_ok nmX6 q1320 (fun _ h => h) (Or.inr ⟨rfl, rfl, rfl⟩) rfl rfl dX6_init_6 ?_
  refine rk_of (fun _ _ _ _ _ k => lr_aload_n hx hb dX6_init_9 rfl (lv_at hl 0 rfl) (lv_iload_n hx hb dX6_init_10 rfl (lv_at hl 2 rfl) k)) ?_
  refine rk_put C H.2.2.1 (hc_X6 H) (k := 1) (Nat.le_of_ble_eq_true rfl) in_X6 (ty0 := tyX6) tyX6_ok nmX6 q1321 (fun _ h => h) (Or.inr ⟨rfl, rfl, rfl⟩) rfl rfl dX6_init_11 ?_
  refine rk_of (fun _ _ _ _ _ k => lr_aload_n hx hb dX6_init_14 rfl (lv_at hl 0 rfl) (lr_aload_n hx hb dX6_init_15 rfl (lv_at hl 3 rfl) k)) ?_
  refine rk_put C H.2.2.1 (hc_X6 H) (k := 2) (Nat.le_of_ble_eq_true rfl) in_X6 (ty0 := tyX6) tyX6_ok nmX6 q1322 (fun _ h => h) (Or.inl rfl) (zn_R rfl _) (zp_R rfl _) dX6_init_16 ?_
  exact rk_top (rf_vret C dX6_init_19)
theorem hd_X6_copy : yX6_copy.cls ≠ "java/lang/invoke/MethodHandle" ∧ yX6_copy.cls ≠ "java/lang/invoke/VarHandle" ∧ (parseMethodDescriptor yX6_copy.desc).map (fun d => d.parameters.length) = some 0 := by decide +kernel
noncomputable def fn_X6_copy (K : zm_K) (a0 : zm_R) : zm_M zm_R :=
  zm_bnd (zm_new 23 [.int 0, .int 0, .null, .int 0]) fun v0 =>
  zm_bnd (zm_getI a0 23 0) fun v5 =>
  zm_bnd (zm_getI a0 23 1) fun v9 =>
  zm_bnd (zm_getR a0 23 2) fun v13 =>
  zm_bnd (fn_X6_init K (some v0) v5 v9 v13) fun _ =>
  zm_bnd (zm_getI a0 23 3) fun v22 =>
  zm_bnd (zm_grd (v22 = 0 ∨ v22 = 1)) fun _ =>
  zm_bnd (zm_putF K (some v0) 23 3 (.int v22)) fun _ =>
  zm_ret (some v0)
theorem ct_X6_copy {l : Launch} {Ω : zm_W} {K : zm_K} (H : zm_H Ω K) (a0 : zm_R) : zm_Ct l Ω yX6_copy (ws_ yX6_copy cX6_copy 2 (Option.some (Jvm.ClassFile.FieldType.object "BoxSpans$Letting"))) 3 107 [va_rf a0] zm_tvR (fn_X6_copy K a0) := by
  refine zm_ct H.1 (by decide +kernel) (zl_le (zl_R zl_nil) (Nat.le_of_ble_eq_true rfl)) ?_
  intro p e R s m args below meth c n0 k0 C hX ls hl
  have hx := C.1
  have hb := C.2.1
  simp only [zg_R, zg_nil] at hl
  have hl : lv_has ls 2 [(0, va_rf a0)] := hl
  refine rk_rf ?_
  unfold fn_X6_copy
  refine rk_new C (hc_X6 H) in_X6 tyX6_ok q1314 q1315 q137 (fs := [.int 0, .int 0, .null, .int 0]) rfl (fun j hj => zdf_X6 j hj) dX6_copy_0 (fun v0 => ?_)
  refine rk_of (fun _ _ _ _ _ k => lv_dup hx hb dX6_copy_3 (va_rf_cat _) (lr_aload_n hx hb dX6_copy_4 rfl (lv_at hl 0 rfl) k)) ?_
  refine rk_get zm_rdI_eq C (hc_X6 H) (k := 0) (Nat.le_of_ble_eq_true rfl) in_X6 q1320 (fun _ h => h) dX6_copy_5 (fun v5 => ?_)
  refine rk_of (fun _ _ _ _ _ k => lr_aload_n hx hb dX6_copy_8 rfl (lv_at hl 0 rfl) k) ?_
  refine rk_get zm_rdI_eq C (hc_X6 H) (k := 1) (Nat.le_of_ble_eq_true rfl) in_X6 q1321 (fun _ h => h) dX6_copy_9 (fun v9 => ?_)
  refine rk_of (fun _ _ _ _ _ k => lr_aload_n hx hb dX6_copy_12 rfl (lv_at hl 0 rfl) k) ?_
  refine rk_get zm_rdR_eq C (hc_X6 H) (k := 2) (Nat.le_of_ble_eq_true rfl) in_X6 q1322 (fun _ h => h) dX6_copy_13 (fun v13 => ?_)
  refine rk_callV hX (cl_I (rest := [va_rf (some v0)]) C (ct_X6_init H (some v0) v5 v9 v13) (lw_meth q1318) q137 q1316 q1317 rfl hd_X6_init ⟨(Nat.le_of_ble_eq_true rfl), (Nat.le_of_ble_eq_true rfl)⟩ rfl hl.1 rfl (zw_le (zw_R zw_nil) (Nat.le_of_ble_eq_true rfl)) dX6_copy_16) (fun _ => ?_)
  refine rk_ofs (fun _ _ _ _ _ k => lr_astore_n hx hb dX6_copy_19 rfl hl (Nat.le_of_ble_eq_true rfl) [0] rfl ⟨(by first | exact va_rf_cat _ | rfl), trivial⟩ k) (fun ls hl => ?_)
  refine rk_of (fun _ _ _ _ _ k => lr_aload_n hx hb dX6_copy_20 rfl (lv_at hl 0 rfl) (lr_aload_n hx hb dX6_copy_21 rfl (lv_at hl 1 rfl) k)) ?_
  refine rk_get zm_rdI_eq C (hc_X6 H) (k := 3) (Nat.le_of_ble_eq_true rfl) in_X6 q1323 (fun _ h => h) dX6_copy_22 (fun v22 => ?_)
  refine rk_grd (fun hg_25 => ?_)
  refine rk_put C H.2.2.1 (hc_X6 H) (k := 3) (Nat.le_of_ble_eq_true rfl) in_X6 (ty0 := tyX6) tyX6_ok nmX6 q1323 (fun _ h => h) (Or.inl rfl) (zn_Z hg_25) (zp_Z hg_25) dX6_copy_25 ?_
  refine rk_of (fun _ _ _ _ _ k => lr_aload_n hx hb dX6_copy_28 rfl (lv_at hl 0 rfl) k) ?_
  exact rk_top (rf_aret C (Or.inl ⟨_, rfl⟩) dX6_copy_29)
theorem hd_J2_grow : yJ2_grow.cls ≠ "java/lang/invoke/MethodHandle" ∧ yJ2_grow.cls ≠ "java/lang/invoke/VarHandle" ∧ (parseMethodDescriptor yJ2_grow.desc).map (fun d => d.parameters.length) = some 0 := by decide +kernel
noncomputable def fn_J2_grow (K : zm_K) (a0 : zm_R) : zm_M zm_R :=
  zm_bnd (zm_getI a0 0 2) fun v2 =>
  zm_bnd (zm_bnd (zm_is a0 0) fun _ => fn_J2_grow_2 K a0 (v2 + 1)) fun v7 =>
  zm_ret v7
theorem ct_J2_grow {l : Launch} {Ω : zm_W} {K : zm_K} (H : zm_H Ω K) (a0 : zm_R) : zm_Ct l Ω yJ2_grow (ws_ yJ2_grow cJ2_grow 1 (Option.some (Jvm.ClassFile.FieldType.array (Jvm.ClassFile.FieldType.object "java/lang/Object")))) 7 195 [va_rf a0] zm_tvR (fn_J2_grow K a0) := by
  refine zm_ct H.1 (by decide +kernel) (zl_le (zl_R zl_nil) (Nat.le_of_ble_eq_true rfl)) ?_
  intro p e R s m args below meth c n0 k0 C hX ls hl
  have hx := C.1
  have hb := C.2.1
  simp only [zg_R, zg_nil] at hl
  have hl : lv_has ls 1 [(0, va_rf a0)] := hl
  refine rk_rf ?_
  unfold fn_J2_grow
  refine rk_of (fun _ _ _ _ _ k => lr_aload_n hx hb dJ2_grow_0 rfl (lv_at hl 0 rfl) (lr_aload_n hx hb dJ2_grow_1 rfl (lv_at hl 0 rfl) k)) ?_
  refine rk_get zm_rdI_eq C (hc_J2 H) (k := 2) (Nat.le_of_ble_eq_true rfl) in_J2 q181 (fun _ h => h) dJ2_grow_2 (fun v2 => ?_)
  refine rk_of (fun _ _ _ _ _ k => lv_iconst (v := 1) hx hb dJ2_grow_5 rfl (lv_iadd hx hb dJ2_grow_6 k)) ?_
  refine rk_callR hX (cl_V (rest := []) (av := [.int (v2 + 1)]) C (hc_J2 H) (ct_J2_grow_2 H a0 (v2 + 1)) (lw_V q1215 q1217 qs11 q105 q1218) ⟨rfl, hd_J2_grow_2⟩ ⟨(Nat.le_of_ble_eq_true rfl), (Nat.le_of_ble_eq_true rfl)⟩ rfl hl.1 rfl (zw_le zw_nil (Nat.le_of_ble_eq_true rfl)) dJ2_grow_7) (fun v7 => ?_)
  exact rk_top (rf_aret C (Or.inr ⟨_, rfl⟩) dJ2_grow_10)
theorem hd_J2_add_2 : yJ2_add_2.cls ≠ "java/lang/invoke/MethodHandle" ∧ yJ2_add_2.cls ≠ "java/lang/invoke/VarHandle" ∧ (parseMethodDescriptor yJ2_add_2.desc).map (fun d => d.parameters.length) = some 3 := by decide +kernel
noncomputable def fn_J2_add_2 (K : zm_K) (a0 : zm_R) (a1 : zm_R) (a2 : zm_R) (a3 : Int32) : zm_M Unit :=
  zm_bnd (zm_alen a2) fun v2 =>
  zm_bnd (α := zm_R) (
      if a3 = v2 then
        zm_bnd (zm_bnd (zm_is a0 0) fun _ => fn_J2_grow K a0) fun v7 =>
        zm_ret v7
      else
        zm_ret a2
    ) fun b11 =>
  zm_bnd (zm_astO K zm_oc b11 a3 a1) fun _ =>
  zm_bnd (zm_putF K a0 0 2 (.int (a3 + 1))) fun _ =>
  zm_ret ()
theorem ct_J2_add_2 {l : Launch} {Ω : zm_W} {K : zm_K} (H : zm_H Ω K) (a0 : zm_R) (a1 : zm_R) (a2 : zm_R) (a3 : Int32) : zm_Ct l Ω yJ2_add_2 (ws_ yJ2_add_2 cJ2_add_2 4 (Option.none : Option Jvm.ClassFile.FieldType)) 8 215 [va_rf a0, va_rf a1, va_rf a2, .int a3] zm_tvV (fn_J2_add_2 K a0 a1 a2 a3) := by
  refine zm_ct H.1 (by decide +kernel) (zl_le (zl_R (zl_R (zl_R (zl_I zl_nil)))) (Nat.le_of_ble_eq_true rfl)) ?_
  intro p e R s m args below meth c n0 k0 C hX ls hl
  have hx := C.1
  have hb := C.2.1
  simp only [zg_I, zg_R, zg_nil] at hl
  have hl : lv_has ls 4 [(0, va_rf a0), (1, va_rf a1), (2, va_rf a2), (3, .int a3)] := hl
  refine rk_rf ?_
  unfold fn_J2_add_2
  refine rk_of (fun _ _ _ _ _ k => lv_iload_n hx hb dJ2_add_2_0 rfl (lv_at hl 3 rfl) (lr_aload_n hx hb dJ2_add_2_1 rfl (lv_at hl 2 rfl) k)) ?_
  refine rk_alen C dJ2_add_2_2 (fun v2 => ?_)
  refine rk_join (β := zm_R) (fun (b11 : zm_R) ls => lv_has ls 4 [(0, va_rf a0), (1, va_rf a1), (2, va_rf b11), (3, .int a3)]) (fun (b11 : zm_R) ls => F0 m 11 ls []) (fun b11 ls hl => ?_) (fun hJ11 => ?_)
  · refine rk_of (fun _ _ _ _ _ k => lr_aload_n hx hb dJ2_add_2_11 rfl (lv_at hl 2 rfl) (lv_iload_n hx hb dJ2_add_2_12 rfl (lv_at hl 3 rfl) (lr_aload_n hx hb dJ2_add_2_13 rfl (lv_at hl 1 rfl) k))) ?_
    refine rk_aast C H.2.2.1 (zh_oc H C) dJ2_add_2_14 ?_
    refine rk_of (fun _ _ _ _ _ k => lr_aload_n hx hb dJ2_add_2_15 rfl (lv_at hl 0 rfl) (lv_iload_n hx hb dJ2_add_2_16 rfl (lv_at hl 3 rfl) (lv_iconst (v := 1) hx hb dJ2_add_2_17 rfl (lv_iadd hx hb dJ2_add_2_18 k)))) ?_
    refine rk_put C H.2.2.1 (hc_J2 H) (k := 2) (Nat.le_of_ble_eq_true rfl) in_J2 (ty0 := tyJ2) tyJ2_ok nmJ2 q181 (fun _ h => h) (Or.inl rfl) rfl rfl dJ2_add_2_19 ?_
    exact rk_top (rf_vret C dJ2_add_2_22)
  · refine rk_ite (fun _ _ _ _ _ k1 k2 => lv_icmp_ne (tgt := 11) hx hb dJ2_add_2_3 (by decide) k2 k1) (fun c_3 => ?_) (fun c_3 => ?_)
    · refine rk_of (fun _ _ _ _ _ k => lr_aload_n hx hb dJ2_add_2_6 rfl (lv_at hl 0 rfl) k) ?_
      refine rk_callR hX (cl_V (rest := []) (av := []) C (hc_J2 H) (ct_J2_grow H a0) (lw_V q1211 q1213 qs10 q105 q1214) ⟨rfl, hd_J2_grow⟩ ⟨(Nat.le_of_ble_eq_true rfl), (Nat.le_of_ble_eq_true rfl)⟩ rfl hl.1 rfl (zw_le zw_nil (Nat.le_of_ble_eq_true rfl)) dJ2_add_2_7) (fun v7 => ?_)
      refine rk_ofs (fun _ _ _ _ _ k => lr_astore_n hx hb dJ2_add_2_10 rfl hl (Nat.le_of_ble_eq_true rfl) [0, 1, 3] rfl ⟨trivial, ⟨(by first | exact va_rf_cat _ | rfl), ⟨trivial, trivial⟩⟩⟩ k) (fun ls hl => ?_)
      exact hJ11 v7 ls (lv_sub hl [1, 2, 0, 3] rfl)
    · exact hJ11 a2 ls (lv_sub hl [0, 1, 2, 3] rfl)
theorem hd_J2_add : yJ2_add.cls ≠ "java/lang/invoke/MethodHandle" ∧ yJ2_add.cls ≠ "java/lang/invoke/VarHandle" ∧ (parseMethodDescriptor yJ2_add.desc).map (fun d => d.parameters.length) = some 1 := by decide +kernel
noncomputable def fn_J2_add (K : zm_K) (a0 : zm_R) (a1 : zm_R) : zm_M Int32 :=
  zm_bnd (zm_getI a0 0 0) fun v2 =>
  zm_bnd (zm_putF K a0 0 0 (.int (v2 + 1))) fun _ =>
  zm_bnd (zm_getR a0 0 1) fun v13 =>
  zm_bnd (zm_getI a0 0 2) fun v17 =>
  zm_bnd (zm_bnd (zm_is a0 0) fun _ => fn_J2_add_2 K a0 a1 v13 v17) fun _ =>
  zm_ret 1
theorem ct_J2_add {l : Launch} {Ω : zm_W} {K : zm_K} (H : zm_H Ω K) (a0 : zm_R) (a1 : zm_R) : zm_Ct l Ω yJ2_add (ws_ yJ2_add cJ2_add 2 (Option.some Jvm.ClassFile.FieldType.boolean)) 9 238 [va_rf a0, va_rf a1] zm_tvI (fn_J2_add K a0 a1) := by
  refine zm_ct H.1 (by decide +kernel) (zl_le (zl_R (zl_R zl_nil)) (Nat.le_of_ble_eq_true rfl)) ?_
  intro p e R s m args below meth c n0 k0 C hX ls hl
  have hx := C.1
  have hb := C.2.1
  simp only [zg_R, zg_nil] at hl
  have hl : lv_has ls 2 [(0, va_rf a0), (1, va_rf a1)] := hl
  refine rk_rf ?_
  unfold fn_J2_add
  refine rk_of (fun _ _ _ _ _ k => lr_aload_n hx hb dJ2_add_0 rfl (lv_at hl 0 rfl) (lv_dup hx hb dJ2_add_1 (va_rf_cat _) k)) ?_
  refine rk_get zm_rdI_eq C (hc_J2 H) (k := 0) (Nat.le_of_ble_eq_true rfl) in_J2 q189 (u_same (C.2.2.2.1 _ q186)) dJ2_add_2 (fun v2 => ?_)
  refine rk_of (fun _ _ _ _ _ k => lv_iconst (v := 1) hx hb dJ2_add_5 rfl (lv_iadd hx hb dJ2_add_6 k)) ?_
  refine rk_put C H.2.2.1 (hc_J2 H) (k := 0) (Nat.le_of_ble_eq_true rfl) in_J2 (ty0 := tyJ2) tyJ2_ok nmJ2 q189 (u_same (C.2.2.2.1 _ q186)) (Or.inl rfl) rfl rfl dJ2_add_7 ?_
  refine rk_of (fun _ _ _ _ _ k => lr_aload_n hx hb dJ2_add_10 rfl (lv_at hl 0 rfl) (lr_aload_n hx hb dJ2_add_11 rfl (lv_at hl 1 rfl) (lr_aload_n hx hb dJ2_add_12 rfl (lv_at hl 0 rfl) k))) ?_
  refine rk_get zm_rdR_eq C (hc_J2 H) (k := 1) (Nat.le_of_ble_eq_true rfl) in_J2 q178 (fun _ h => h) dJ2_add_13 (fun v13 => ?_)
  refine rk_of (fun _ _ _ _ _ k => lr_aload_n hx hb dJ2_add_16 rfl (lv_at hl 0 rfl) k) ?_
  refine rk_get zm_rdI_eq C (hc_J2 H) (k := 2) (Nat.le_of_ble_eq_true rfl) in_J2 q181 (fun _ h => h) dJ2_add_17 (fun v17 => ?_)
  refine rk_callV hX (cl_V (rest := []) (av := [va_rf a1, va_rf v13, .int v17]) C (hc_J2 H) (ct_J2_add_2 H a0 a1 v13 v17) (lw_V q1207 q1209 qs9 q105 q1210) ⟨rfl, hd_J2_add_2⟩ ⟨(Nat.le_of_ble_eq_true rfl), (Nat.le_of_ble_eq_true rfl)⟩ rfl hl.1 rfl (zw_le zw_nil (Nat.le_of_ble_eq_true rfl)) dJ2_add_20) (fun _ => ?_)
  refine rk_of (fun _ _ _ _ _ k => lv_iconst (v := 1) hx hb dJ2_add_23 rfl k) ?_
  exact rk_top (rf_iret C rfl dJ2_add_24)
theorem hd_J4_linkLast : yJ4_linkLast.cls ≠ "java/lang/invoke/MethodHandle" ∧ yJ4_linkLast.cls ≠ "java/lang/invoke/VarHandle" ∧ (parseMethodDescriptor yJ4_linkLast.desc).map (fun d => d.parameters.length) = some 1 := by decide +kernel
noncomputable def fn_J4_linkLast (K : zm_K) (a0 : zm_R) (a1 : zm_R) : zm_M Unit :=
  zm_bnd (zm_getR a0 1 3) fun v1 =>
  zm_bnd (zm_new 7 [.null, .null, .null]) fun v5 =>
  zm_bnd (fn_J18_init K (some v5) v1 a1 none) fun _ =>
  zm_bnd (zm_putF K a0 1 3 (va_rf (some v5))) fun _ =>
  zm_bnd (α := Unit) (
      if v1 = none then
        zm_bnd (zm_putF K a0 1 2 (va_rf (some v5))) fun _ =>
        zm_ret ()
      else
        zm_bnd (zm_putF K v1 7 1 (va_rf (some v5))) fun _ =>
        zm_ret ()
    ) fun (_ : Unit) =>
  zm_bnd (zm_getI a0 1 1) fun v40 =>
  zm_bnd (zm_putF K a0 1 1 (.int (v40 + 1))) fun _ =>
  zm_bnd (zm_getI a0 1 0) fun v50 =>
  zm_bnd (zm_putF K a0 1 0 (.int (v50 + 1))) fun _ =>
  zm_ret ()
theorem ct_J4_linkLast {l : Launch} {Ω : zm_W} {K : zm_K} (H : zm_H Ω K) (a0 : zm_R) (a1 : zm_R) : zm_Ct l Ω yJ4_linkLast (ws_ yJ4_linkLast cJ4_linkLast 4 (Option.none : Option Jvm.ClassFile.FieldType)) 3 107 [va_rf a0, va_rf a1] zm_tvV (fn_J4_linkLast K a0 a1) := by
  refine zm_ct H.1 (by decide +kernel) (zl_le (zl_R (zl_R zl_nil)) (Nat.le_of_ble_eq_true rfl)) ?_
  intro p e R s m args below meth c n0 k0 C hX ls hl
  have hx := C.1
  have hb := C.2.1
  simp only [zg_R, zg_nil] at hl
  have hl : lv_has ls 4 [(0, va_rf a0), (1, va_rf a1)] := hl
  refine rk_rf ?_
  unfold fn_J4_linkLast
  refine rk_of (fun _ _ _ _ _ k => lr_aload_n hx hb dJ4_linkLast_0 rfl (lv_at hl 0 rfl) k) ?_
  refine rk_get zm_rdR_eq C (hc_J4 H) (k := 3) (Nat.le_of_ble_eq_true rfl) in_J4 q228 (fun _ h => h) dJ4_linkLast_1 (fun v1 => ?_)
  refine rk_ofs (fun _ _ _ _ _ k => lr_astore_n hx hb dJ4_linkLast_4 rfl hl (Nat.le_of_ble_eq_true rfl) [0, 1] rfl ⟨trivial, ⟨(by first | exact va_rf_cat _ | rfl), trivial⟩⟩ k) (fun ls hl => ?_)
  refine rk_new C (hc_J18 H) in_J18 tyJ18_ok q1241 q1242 q125 (fs := [.null, .null, .null]) rfl (fun j hj => zdf_J18 j hj) dJ4_linkLast_5 (fun v5 => ?_)
  refine rk_of (fun _ _ _ _ _ k => lv_dup hx hb dJ4_linkLast_8 (va_rf_cat _) (lr_aload_n hx hb dJ4_linkLast_9 rfl (lv_at hl 0 rfl) (lr_aload_n hx hb dJ4_linkLast_10 rfl (lv_at hl 2 rfl) (lr_null hx hb dJ4_linkLast_11 k)))) ?_
  refine rk_callV hX (cl_I (rest := [va_rf (some v5)]) C (ct_J18_init H (some v5) v1 a1 none) (lw_meth q1245) q125 q1243 q1244 rfl hd_J18_init ⟨(Nat.le_of_ble_eq_true rfl), (Nat.le_of_ble_eq_true rfl)⟩ rfl hl.1 rfl (zw_le (zw_R zw_nil) (Nat.le_of_ble_eq_true rfl)) dJ4_linkLast_12) (fun _ => ?_)
  refine rk_ofs (fun _ _ _ _ _ k => lr_astore_n hx hb dJ4_linkLast_15 rfl hl (Nat.le_of_ble_eq_true rfl) [0, 1] rfl ⟨(by first | exact va_rf_cat _ | rfl), ⟨trivial, trivial⟩⟩ k) (fun ls hl => ?_)
  refine rk_of (fun _ _ _ _ _ k => lr_aload_n hx hb dJ4_linkLast_16 rfl (lv_at hl 2 rfl) (lr_aload_n hx hb dJ4_linkLast_17 rfl (lv_at hl 0 rfl) k)) ?_
  refine rk_put C H.2.2.1 (hc_J4 H) (k := 3) (Nat.le_of_ble_eq_true rfl) in_J4 (ty0 := tyJ4) tyJ4_ok nmJ4 q228 (fun _ h => h) (Or.inl rfl) (zn_R rfl _) (zp_R rfl _) dJ4_linkLast_18 ?_
  refine rk_of (fun _ _ _ _ _ k => lr_aload_n hx hb dJ4_linkLast_21 rfl (lv_at hl 1 rfl) k) ?_
  refine rk_join (β := Unit) (fun (b38 : Unit) ls => lv_has ls 4 [(0, va_rf a0)]) (fun (b38 : Unit) ls => F0 m 38 ls []) (fun b38 ls hl => ?_) (fun hJ38 => ?_)
  · refine rk_of (fun _ _ _ _ _ k => lr_aload_n hx hb dJ4_linkLast_38 rfl (lv_at hl 0 rfl) (lv_dup hx hb dJ4_linkLast_39 (va_rf_cat _) k)) ?_
    refine rk_get zm_rdI_eq C (hc_J4 H) (k := 1) (Nat.le_of_ble_eq_true rfl) in_J4 q225 (fun _ h => h) dJ4_linkLast_40 (fun v40 => ?_)
    refine rk_of (fun _ _ _ _ _ k => lv_iconst (v := 1) hx hb dJ4_linkLast_43 rfl (lv_iadd hx hb dJ4_linkLast_44 k)) ?_
    refine rk_put C H.2.2.1 (hc_J4 H) (k := 1) (Nat.le_of_ble_eq_true rfl) in_J4 (ty0 := tyJ4) tyJ4_ok nmJ4 q225 (fun _ h => h) (Or.inl rfl) rfl rfl dJ4_linkLast_45 ?_
    refine rk_of (fun _ _ _ _ _ k => lr_aload_n hx hb dJ4_linkLast_48 rfl (lv_at hl 0 rfl) (lv_dup hx hb dJ4_linkLast_49 (va_rf_cat _) k)) ?_
    refine rk_get zm_rdI_eq C (hc_J4 H) (k := 0) (Nat.le_of_ble_eq_true rfl) in_J4 q188 (u_same (C.2.2.2.1 _ q184)) dJ4_linkLast_50 (fun v50 => ?_)
    refine rk_of (fun _ _ _ _ _ k => lv_iconst (v := 1) hx hb dJ4_linkLast_53 rfl (lv_iadd hx hb dJ4_linkLast_54 k)) ?_
    refine rk_put C H.2.2.1 (hc_J4 H) (k := 0) (Nat.le_of_ble_eq_true rfl) in_J4 (ty0 := tyJ4) tyJ4_ok nmJ4 q188 (u_same (C.2.2.2.1 _ q184)) (Or.inl rfl) rfl rfl dJ4_linkLast_55 ?_
    exact rk_top (rf_vret C dJ4_linkLast_58)
  · refine rk_ite (fun _ _ _ _ _ k1 k2 => lr_ifnonnull (tgt := 33) hx hb dJ4_linkLast_22 (by decide) k2 k1) (fun c_22 => ?_) (fun c_22 => ?_)
    · refine rk_of (fun _ _ _ _ _ k => lr_aload_n hx hb dJ4_linkLast_25 rfl (lv_at hl 2 rfl) (lr_aload_n hx hb dJ4_linkLast_26 rfl (lv_at hl 0 rfl) k)) ?_
      refine rk_put C H.2.2.1 (hc_J4 H) (k := 2) (Nat.le_of_ble_eq_true rfl) in_J4 (ty0 := tyJ4) tyJ4_ok nmJ4 q227 (fun _ h => h) (Or.inl rfl) (zn_R rfl _) (zp_R rfl _) dJ4_linkLast_27 ?_
      refine rk_of (fun _ _ _ _ _ k => lv_goto (tgt := 38) hx hb dJ4_linkLast_30 (by decide) k) ?_
      exact hJ38 () ls (lv_sub hl [2] rfl)
    · refine rk_of (fun _ _ _ _ _ k => lr_aload_n hx hb dJ4_linkLast_33 rfl (lv_at hl 1 rfl) (lr_aload_n hx hb dJ4_linkLast_34 rfl (lv_at hl 0 rfl) k)) ?_
      refine rk_put C H.2.2.1 (hc_J18 H) (k := 1) (Nat.le_of_ble_eq_true rfl) in_J18 (ty0 := tyJ18) tyJ18_ok nmJ18 q1252 (fun _ h => h) (Or.inl rfl) (zn_R rfl _) (zp_R rfl _) dJ4_linkLast_35 ?_
      exact hJ38 () ls (lv_sub hl [2] rfl)
theorem hd_J4_add : yJ4_add.cls ≠ "java/lang/invoke/MethodHandle" ∧ yJ4_add.cls ≠ "java/lang/invoke/VarHandle" ∧ (parseMethodDescriptor yJ4_add.desc).map (fun d => d.parameters.length) = some 1 := by decide +kernel
noncomputable def fn_J4_add (K : zm_K) (a0 : zm_R) (a1 : zm_R) : zm_M Int32 :=
  zm_bnd (zm_bnd (zm_is a0 1) fun _ => fn_J4_linkLast K a0 a1) fun _ =>
  zm_ret 1
theorem ct_J4_add {l : Launch} {Ω : zm_W} {K : zm_K} (H : zm_H Ω K) (a0 : zm_R) (a1 : zm_R) : zm_Ct l Ω yJ4_add (ws_ yJ4_add cJ4_add 2 (Option.some Jvm.ClassFile.FieldType.boolean)) 4 130 [va_rf a0, va_rf a1] zm_tvI (fn_J4_add K a0 a1) := by
  refine zm_ct H.1 (by decide +kernel) (zl_le (zl_R (zl_R zl_nil)) (Nat.le_of_ble_eq_true rfl)) ?_
  intro p e R s m args below meth c n0 k0 C hX ls hl
  have hx := C.1
  have hb := C.2.1
  simp only [zg_R, zg_nil] at hl
  have hl : lv_has ls 2 [(0, va_rf a0), (1, va_rf a1)] := hl
  refine rk_rf ?_
  unfold fn_J4_add
  refine rk_of (fun _ _ _ _ _ k => lr_aload_n hx hb dJ4_add_0 rfl (lv_at hl 0 rfl) (lr_aload_n hx hb dJ4_add_1 rfl (lv_at hl 1 rfl) k)) ?_
  refine rk_callV hX (cl_V (rest := []) (av := [va_rf a1]) C (hc_J4 H) (ct_J4_linkLast H a0 a1) (lw_V q1237 q1238 q1239 q107 q1240) ⟨rfl, hd_J4_linkLast⟩ ⟨(Nat.le_of_ble_eq_true rfl), (Nat.le_of_ble_eq_true rfl)⟩ rfl hl.1 rfl (zw_le zw_nil (Nat.le_of_ble_eq_true rfl)) dJ4_add_2) (fun _ => ?_)
  refine rk_of (fun _ _ _ _ _ k => lv_iconst (v := 1) hx hb dJ4_add_5 rfl k) ?_
  exact rk_top (rf_iret C rfl dJ4_add_6)
theorem hd_X2_copy : yX2_copy.cls ≠ "java/lang/invoke/MethodHandle" ∧ yX2_copy.cls ≠ "java/lang/invoke/VarHandle" ∧ (parseMethodDescriptor yX2_copy.desc).map (fun d => d.parameters.length) = some 0 := by decide +kernel
noncomputable def fn_X2_copy_32 (K : zm_K) (p0 : zm_R) (p1 : zm_R) (p2 : zm_R) : Nat → zm_M (Unit)
  | 0 => zm_fl
  | n + 1 =>
    zm_bnd (zm_bnd (zm_cls p2) fun ci => if ci = 26 then fn_X10_hasNext K p2 else if ci = 9 then fn_J22_hasNext K p2 else if ci = 11 then fn_J25_hasNext K p2 else zm_fl) fun v33 =>
    if v33 = 0 then
      zm_ret ()
    else
      zm_bnd (zm_bnd (zm_cls p2) fun ci => if ci = 26 then fn_X10_next K p2 else if ci = 9 then fn_J22_next K p2 else if ci = 11 then fn_J25_next K p2 else zm_fl) fun v42 =>
      zm_bnd (zm_chk [23] [] v42) fun _ =>
      zm_bnd (zm_getR p1 19 1) fun v52 =>
      zm_bnd (zm_bnd (zm_is v42 23) fun _ => fn_X6_copy K v42) fun v56 =>
      zm_bnd (zm_bnd (zm_cls v52) fun ci => if ci = 0 then fn_J2_add K v52 v56 else if ci = 1 then fn_J4_add K v52 v56 else zm_fl) fun v59 =>
      fn_X2_copy_32 K p0 p1 p2 n
noncomputable def fn_X2_copy (K : zm_K) (a0 : zm_R) : zm_M zm_R :=
  zm_bnd (zm_new 19 [.null, .null, .null, .int 0, .int 0, .int 0]) fun v0 =>
  zm_bnd (fn_X2_init K (some v0)) fun _ =>
  zm_bnd (zm_getR (some v0) 19 0) fun v9 =>
  zm_bnd (zm_getR a0 19 0) fun v13 =>
  zm_bnd (zm_bnd (zm_cls v9) fun ci => if ci = 0 then fn_J2_addAll K v9 v13 else if ci = 1 then fn_J4_addAll K v9 v13 else zm_fl) fun v16 =>
  zm_bnd (zm_getR a0 19 1) fun v23 =>
  zm_bnd (zm_bnd (zm_cls v23) fun ci => if ci = 0 then fn_J2_iterator K v23 else if ci = 1 then fn_J3_iterator K v23 else zm_fl) fun v26 =>
  zm_bnd (α := Unit) (fn_X2_copy_32 K a0 (some v0) v26 zm_N) fun (_ : Unit) =>
  zm_bnd (zm_getR (some v0) 19 2) fun v69 =>
  zm_bnd (zm_getR a0 19 2) fun v73 =>
  zm_bnd (zm_bnd (zm_cls v69) fun ci => if ci = 0 then fn_J2_addAll K v69 v73 else if ci = 1 then fn_J4_addAll K v69 v73 else zm_fl) fun v76 =>
  zm_bnd (zm_getI a0 19 3) fun v84 =>
  zm_bnd (zm_putF K (some v0) 19 3 (.int v84)) fun _ =>
  zm_bnd (zm_getI a0 19 4) fun v92 =>
  zm_bnd (zm_putF K (some v0) 19 4 (.int v92)) fun _ =>
  zm_bnd (zm_getI a0 19 5) fun v100 =>
  zm_bnd (zm_putF K (some v0) 19 5 (.int v100)) fun _ =>
  zm_ret (some v0)
theorem rf_X2_copy_32 (H : zm_H Ω K) (C : zm_C p l R s m args meth c Ω lw_all cX2_copy yX2_copy.cls yX2_copy.name 4 17 415 (Option.some (Jvm.ClassFile.FieldType.object "BoxSpans$Theatre"))) (hX : zm_XO p l e R s m args below meth c Ω n0 k0 (zm_QFs below args s Ω n0 k0 zm_tvR)) (p0 : zm_R) (p1 : zm_R) (p2 : zm_R) : ∀ (n : Nat) (J : (Unit) → zm_M zm_R) (ls : Array Slot), lv_has ls 4 [(0, va_rf p0), (1, va_rf p1), (2, va_rf p2)] → (∀ (b : Unit) (ls : Array Slot), lv_has ls 4 [(0, va_rf p0), (1, va_rf p1)] → zm_RK p l e R s m args below meth c Ω n0 k0 (zm_QFs below args s Ω n0 k0 zm_tvR) (zm_ret b) J (F0 m 68 ls [])) → zm_RK p l e R s m args below meth c Ω n0 k0 (zm_QFs below args s Ω n0 k0 zm_tvR) (fn_X2_copy_32 K p0 p1 p2 n) J (F0 m 32 ls []) := by
  have hx := C.1
  have hb := C.2.1
  intro n
  induction n with
  | zero => intro J ls hl hJ; exact rk_fl
  | succ n ih =>
    intro J ls hl hJ
    unfold fn_X2_copy_32
    refine rk_of (fun _ _ _ _ _ k => lr_aload_n hx hb dX2_copy_32 rfl (lv_at hl 2 rfl) k) ?_
    refine rk_callI hX (cl_dsp (fun ci => cl_case (cl_F (n := 0) (rest := []) (av := []) C (hc_X10 H) (ct_X10_hasNext H p2) (lw_F q733 q737 q739 q143 q741) (zh_Fw H C (by decide) q735 q734 q740 q738 q736) (by decide +kernel) ⟨(Nat.le_of_ble_eq_true rfl), (Nat.le_of_ble_eq_true rfl)⟩ rfl hl.1 rfl (zw_le zw_nil (Nat.le_of_ble_eq_true rfl)) dX2_copy_33) (cl_case (cl_F (n := 0) (rest := []) (av := []) C (hc_J22 H) (ct_J22_hasNext H p2) (lw_F q733 q758 q760 q129 q762) (zh_Fw H C (by decide) q735 q734 q761 q759 q757) (by decide +kernel) ⟨(Nat.le_of_ble_eq_true rfl), (Nat.le_of_ble_eq_true rfl)⟩ rfl hl.1 rfl (zw_le zw_nil (Nat.le_of_ble_eq_true rfl)) dX2_copy_33) (cl_case (cl_F (n := 0) (rest := []) (av := []) C (hc_J25 H) (ct_J25_hasNext H p2) (lw_F q733 q767 q769 q133 q771) (zh_Fw H C (by decide) q735 q734 q770 q768 q766) (by decide +kernel) ⟨(Nat.le_of_ble_eq_true rfl), (Nat.le_of_ble_eq_true rfl)⟩ rfl hl.1 rfl (zw_le zw_nil (Nat.le_of_ble_eq_true rfl)) dX2_copy_33) (cl_fl))))) (fun v33 => ?_)
    refine rk_ite (fun _ _ _ _ _ k1 k2 => lv_if_eq (tgt := 68) hx hb dX2_copy_38 (by decide) k1 k2) (fun c_38 => ?_) (fun c_38 => ?_)
    · exact hJ () ls (lv_sub hl [0, 1] rfl)
    · refine rk_of (fun _ _ _ _ _ k => lr_aload_n hx hb dX2_copy_41 rfl (lv_at hl 2 rfl) k) ?_
      refine rk_callR hX (cl_dsp (fun ci => cl_case (cl_F (n := 0) (rest := []) (av := []) C (hc_X10 H) (ct_X10_next H p2) (lw_F q773 q776 q778 q143 q780) (zh_Fw H C (by decide) q775 q774 q779 q777 q736) (by decide +kernel) ⟨(Nat.le_of_ble_eq_true rfl), (Nat.le_of_ble_eq_true rfl)⟩ rfl hl.1 rfl (zw_le zw_nil (Nat.le_of_ble_eq_true rfl)) dX2_copy_42) (cl_case (cl_F (n := 0) (rest := []) (av := []) C (hc_J22 H) (ct_J22_next H p2) (lw_F q773 q966 q968 q129 q970) (zh_Fw H C (by decide) q775 q774 q969 q967 q757) (by decide +kernel) ⟨(Nat.le_of_ble_eq_true rfl), (Nat.le_of_ble_eq_true rfl)⟩ rfl hl.1 rfl (zw_le zw_nil (Nat.le_of_ble_eq_true rfl)) dX2_copy_42) (cl_case (cl_F (n := 0) (rest := []) (av := []) C (hc_J25 H) (ct_J25_next H p2) (lw_F q773 q981 q983 q133 q985) (zh_Fw H C (by decide) q775 q774 q984 q982 q766) (by decide +kernel) ⟨(Nat.le_of_ble_eq_true rfl), (Nat.le_of_ble_eq_true rfl)⟩ rfl hl.1 rfl (zw_le zw_nil (Nat.le_of_ble_eq_true rfl)) dX2_copy_42) (cl_fl))))) (fun v42 => ?_)
      refine rk_chk C q1094 (zc_cons (zc_s (hc_X6 H)) zc_nil) zp_nil dX2_copy_47 ?_
      refine rk_ofs (fun _ _ _ _ _ k => lr_astore_n hx hb dX2_copy_50 rfl hl (Nat.le_of_ble_eq_true rfl) [0, 1, 2] rfl ⟨trivial, ⟨trivial, ⟨(by first | exact va_rf_cat _ | rfl), trivial⟩⟩⟩ k) (fun ls hl => ?_)
      refine rk_of (fun _ _ _ _ _ k => lr_aload_n hx hb dX2_copy_51 rfl (lv_at hl 2 rfl) k) ?_
      refine rk_get zm_rdR_eq C (hc_X2 H) (k := 1) (Nat.le_of_ble_eq_true rfl) in_X2 q198 (fun _ h => h) dX2_copy_52 (fun v52 => ?_)
      refine rk_of (fun _ _ _ _ _ k => lr_aload_n hx hb dX2_copy_55 rfl (lv_at hl 0 rfl) k) ?_
      refine rk_callR hX (cl_V (rest := [va_rf v52]) (av := []) C (hc_X6 H) (ct_X6_copy H v42) (lw_V q1310 q1311 q1312 q137 q1313) ⟨rfl, hd_X6_copy⟩ ⟨(Nat.le_of_ble_eq_true rfl), (Nat.le_of_ble_eq_true rfl)⟩ rfl hl.1 rfl (zw_le (zw_R zw_nil) (Nat.le_of_ble_eq_true rfl)) dX2_copy_56) (fun v56 => ?_)
      refine rk_callI hX (cl_dsp (fun ci => cl_case (cl_F (n := 1) (rest := []) (av := [va_rf v56]) C (hc_J2 H) (ct_J2_add H v52 v56) (lw_F q1199 q1202 q1204 q105 q1206) (zh_Fw H C (by decide) q1201 q1200 q1205 q1203 q309) (by decide +kernel) ⟨(Nat.le_of_ble_eq_true rfl), (Nat.le_of_ble_eq_true rfl)⟩ rfl hl.1 rfl (zw_le zw_nil (Nat.le_of_ble_eq_true rfl)) dX2_copy_59) (cl_case (cl_F (n := 1) (rest := []) (av := [va_rf v56]) C (hc_J4 H) (ct_J4_add H v52 v56) (lw_F q1199 q1232 q1234 q107 q1236) (zh_Fw H C (by decide) q1201 q1200 q1235 q1233 q336) (by decide +kernel) ⟨(Nat.le_of_ble_eq_true rfl), (Nat.le_of_ble_eq_true rfl)⟩ rfl hl.1 rfl (zw_le zw_nil (Nat.le_of_ble_eq_true rfl)) dX2_copy_59) (cl_fl)))) (fun v59 => ?_)
      refine rk_of (fun _ _ _ _ _ k => lv_pop hx hb dX2_copy_64 rfl (lv_goto (tgt := 32) hx hb dX2_copy_65 (by decide) k)) ?_
      exact ih J ls (lv_sub hl [1, 2, 3] rfl) hJ
theorem ct_X2_copy {l : Launch} {Ω : zm_W} {K : zm_K} (H : zm_H Ω K) (a0 : zm_R) : zm_Ct l Ω yX2_copy (ws_ yX2_copy cX2_copy 4 (Option.some (Jvm.ClassFile.FieldType.object "BoxSpans$Theatre"))) 17 415 [va_rf a0] zm_tvR (fn_X2_copy K a0) := by
  refine zm_ct H.1 (by decide +kernel) (zl_le (zl_R zl_nil) (Nat.le_of_ble_eq_true rfl)) ?_
  intro p e R s m args below meth c n0 k0 C hX ls hl
  have hx := C.1
  have hb := C.2.1
  simp only [zg_R, zg_nil] at hl
  have hl : lv_has ls 4 [(0, va_rf a0)] := hl
  refine rk_rf ?_
  unfold fn_X2_copy
  refine rk_new C (hc_X2 H) in_X2 tyX2_ok q1270 q159 q102 (fs := [.null, .null, .null, .int 0, .int 0, .int 0]) rfl (fun j hj => zdf_X2 j hj) dX2_copy_0 (fun v0 => ?_)
  refine rk_of (fun _ _ _ _ _ k => lv_dup hx hb dX2_copy_3 (va_rf_cat _) k) ?_
  refine rk_callV hX (cl_I (rest := [va_rf (some v0)]) C (ct_X2_init H (some v0)) (lw_meth q162) q102 q1271 q161 rfl hd_X2_init ⟨(Nat.le_of_ble_eq_true rfl), (Nat.le_of_ble_eq_true rfl)⟩ rfl hl.1 rfl (zw_le (zw_R zw_nil) (Nat.le_of_ble_eq_true rfl)) dX2_copy_4) (fun _ => ?_)
  refine rk_ofs (fun _ _ _ _ _ k => lr_astore_n hx hb dX2_copy_7 rfl hl (Nat.le_of_ble_eq_true rfl) [0] rfl ⟨(by first | exact va_rf_cat _ | rfl), trivial⟩ k) (fun ls hl => ?_)
  refine rk_of (fun _ _ _ _ _ k => lr_aload_n hx hb dX2_copy_8 rfl (lv_at hl 0 rfl) k) ?_
  refine rk_get zm_rdR_eq C (hc_X2 H) (k := 0) (Nat.le_of_ble_eq_true rfl) in_X2 q197 (fun _ h => h) dX2_copy_9 (fun v9 => ?_)
  refine rk_of (fun _ _ _ _ _ k => lr_aload_n hx hb dX2_copy_12 rfl (lv_at hl 1 rfl) k) ?_
  refine rk_get zm_rdR_eq C (hc_X2 H) (k := 0) (Nat.le_of_ble_eq_true rfl) in_X2 q197 (fun _ h => h) dX2_copy_13 (fun v13 => ?_)
  refine rk_callI hX (cl_dsp (fun ci => cl_case (cl_F (n := 1) (rest := []) (av := [va_rf v13]) C (hc_J2 H) (ct_J2_addAll H v9 v13) (lw_F q1273 q1276 q1278 q105 q1280) (zh_Fw H C (by decide) q1275 q1274 q1279 q1277 q309) (by decide +kernel) ⟨(Nat.le_of_ble_eq_true rfl), (Nat.le_of_ble_eq_true rfl)⟩ rfl hl.1 rfl (zw_le zw_nil (Nat.le_of_ble_eq_true rfl)) dX2_copy_16) (cl_case (cl_F (n := 1) (rest := []) (av := [va_rf v13]) C (hc_J4 H) (ct_J4_addAll H v9 v13) (lw_F q1273 q1299 q1301 q107 q1303) (zh_Fw H C (by decide) q1275 q1274 q1302 q1300 q336) (by decide +kernel) ⟨(Nat.le_of_ble_eq_true rfl), (Nat.le_of_ble_eq_true rfl)⟩ rfl hl.1 rfl (zw_le zw_nil (Nat.le_of_ble_eq_true rfl)) dX2_copy_16) (cl_fl)))) (fun v16 => ?_)
  refine rk_of (fun _ _ _ _ _ k => lv_pop hx hb dX2_copy_21 rfl (lr_aload_n hx hb dX2_copy_22 rfl (lv_at hl 1 rfl) k)) ?_
  refine rk_get zm_rdR_eq C (hc_X2 H) (k := 1) (Nat.le_of_ble_eq_true rfl) in_X2 q198 (fun _ h => h) dX2_copy_23 (fun v23 => ?_)
  refine rk_callR hX (cl_dsp (fun ci => cl_case (cl_F (n := 0) (rest := []) (av := []) C (hc_J2 H) (ct_J2_iterator H v23) (lw_F q306 q310 q312 q105 q314) (zh_Fw H C (by decide) q308 q307 q313 q311 q309) (by decide +kernel) ⟨(Nat.le_of_ble_eq_true rfl), (Nat.le_of_ble_eq_true rfl)⟩ rfl hl.1 rfl (zw_le zw_nil (Nat.le_of_ble_eq_true rfl)) dX2_copy_26) (cl_case (cl_F (n := 0) (rest := []) (av := []) C (hc_J4 H) (ct_J3_iterator H v23) (lw_F q306 q337 q339 q106 q341) (zh_Fw H C (by decide) q308 q307 q340 q338 q336) (by decide +kernel) ⟨(Nat.le_of_ble_eq_true rfl), (Nat.le_of_ble_eq_true rfl)⟩ rfl hl.1 rfl (zw_le zw_nil (Nat.le_of_ble_eq_true rfl)) dX2_copy_26) (cl_fl)))) (fun v26 => ?_)
  refine rk_ofs (fun _ _ _ _ _ k => lr_astore_n hx hb dX2_copy_31 rfl hl (Nat.le_of_ble_eq_true rfl) [0, 1] rfl ⟨(by first | exact va_rf_cat _ | rfl), ⟨trivial, trivial⟩⟩ k) (fun ls hl => ?_)
  refine rk_join (β := Unit) (fun (b68 : Unit) ls => lv_has ls 4 [(0, va_rf a0), (1, va_rf (some v0))]) (fun (b68 : Unit) ls => F0 m 68 ls []) (fun b68 ls hl => ?_) (fun hJ68 => ?_)
  · refine rk_of (fun _ _ _ _ _ k => lr_aload_n hx hb dX2_copy_68 rfl (lv_at hl 1 rfl) k) ?_
    refine rk_get zm_rdR_eq C (hc_X2 H) (k := 2) (Nat.le_of_ble_eq_true rfl) in_X2 q199 (fun _ h => h) dX2_copy_69 (fun v69 => ?_)
    refine rk_of (fun _ _ _ _ _ k => lr_aload_n hx hb dX2_copy_72 rfl (lv_at hl 0 rfl) k) ?_
    refine rk_get zm_rdR_eq C (hc_X2 H) (k := 2) (Nat.le_of_ble_eq_true rfl) in_X2 q199 (fun _ h => h) dX2_copy_73 (fun v73 => ?_)
    refine rk_callI hX (cl_dsp (fun ci => cl_case (cl_F (n := 1) (rest := []) (av := [va_rf v73]) C (hc_J2 H) (ct_J2_addAll H v69 v73) (lw_F q1273 q1276 q1278 q105 q1280) (zh_Fw H C (by decide) q1275 q1274 q1279 q1277 q309) (by decide +kernel) ⟨(Nat.le_of_ble_eq_true rfl), (Nat.le_of_ble_eq_true rfl)⟩ rfl hl.1 rfl (zw_le zw_nil (Nat.le_of_ble_eq_true rfl)) dX2_copy_76) (cl_case (cl_F (n := 1) (rest := []) (av := [va_rf v73]) C (hc_J4 H) (ct_J4_addAll H v69 v73) (lw_F q1273 q1299 q1301 q107 q1303) (zh_Fw H C (by decide) q1275 q1274 q1302 q1300 q336) (by decide +kernel) ⟨(Nat.le_of_ble_eq_true rfl), (Nat.le_of_ble_eq_true rfl)⟩ rfl hl.1 rfl (zw_le zw_nil (Nat.le_of_ble_eq_true rfl)) dX2_copy_76) (cl_fl)))) (fun v76 => ?_)
    refine rk_of (fun _ _ _ _ _ k => lv_pop hx hb dX2_copy_81 rfl (lr_aload_n hx hb dX2_copy_82 rfl (lv_at hl 1 rfl) (lr_aload_n hx hb dX2_copy_83 rfl (lv_at hl 0 rfl) k))) ?_
    refine rk_get zm_rdI_eq C (hc_X2 H) (k := 3) (Nat.le_of_ble_eq_true rfl) in_X2 q200 (fun _ h => h) dX2_copy_84 (fun v84 => ?_)
    refine rk_put C H.2.2.1 (hc_X2 H) (k := 3) (Nat.le_of_ble_eq_true rfl) in_X2 (ty0 := tyX2) tyX2_ok nmX2 q200 (fun _ h => h) (Or.inl rfl) rfl rfl dX2_copy_87 ?_
    refine rk_of (fun _ _ _ _ _ k => lr_aload_n hx hb dX2_copy_90 rfl (lv_at hl 1 rfl) (lr_aload_n hx hb dX2_copy_91 rfl (lv_at hl 0 rfl) k)) ?_
    refine rk_get zm_rdI_eq C (hc_X2 H) (k := 4) (Nat.le_of_ble_eq_true rfl) in_X2 q201 (fun _ h => h) dX2_copy_92 (fun v92 => ?_)
    refine rk_put C H.2.2.1 (hc_X2 H) (k := 4) (Nat.le_of_ble_eq_true rfl) in_X2 (ty0 := tyX2) tyX2_ok nmX2 q201 (fun _ h => h) (Or.inl rfl) rfl rfl dX2_copy_95 ?_
    refine rk_of (fun _ _ _ _ _ k => lr_aload_n hx hb dX2_copy_98 rfl (lv_at hl 1 rfl) (lr_aload_n hx hb dX2_copy_99 rfl (lv_at hl 0 rfl) k)) ?_
    refine rk_get zm_rdI_eq C (hc_X2 H) (k := 5) (Nat.le_of_ble_eq_true rfl) in_X2 q202 (fun _ h => h) dX2_copy_100 (fun v100 => ?_)
    refine rk_put C H.2.2.1 (hc_X2 H) (k := 5) (Nat.le_of_ble_eq_true rfl) in_X2 (ty0 := tyX2) tyX2_ok nmX2 q202 (fun _ h => h) (Or.inl rfl) rfl rfl dX2_copy_103 ?_
    refine rk_of (fun _ _ _ _ _ k => lr_aload_n hx hb dX2_copy_106 rfl (lv_at hl 1 rfl) k) ?_
    exact rk_top (rf_aret C (Or.inl ⟨_, rfl⟩) dX2_copy_107)
  · exact rf_X2_copy_32 H C hX a0 (some v0) v26 zm_N _ ls (lv_sub hl [2, 1, 0] rfl) hJ68
theorem hd_X2_boxes : yX2_boxes.cls ≠ "java/lang/invoke/MethodHandle" ∧ yX2_boxes.cls ≠ "java/lang/invoke/VarHandle" ∧ (parseMethodDescriptor yX2_boxes.desc).map (fun d => d.parameters.length) = some 0 := by decide +kernel
noncomputable def fn_X2_boxes (K : zm_K) (a0 : zm_R) : zm_M Int32 :=
  zm_bnd (zm_getR a0 19 0) fun v1 =>
  zm_bnd (zm_bnd (zm_cls v1) fun ci => if ci = 0 then fn_J2_size K v1 else if ci = 1 then fn_J4_size K v1 else zm_fl) fun v4 =>
  zm_ret v4
theorem ct_X2_boxes {l : Launch} {Ω : zm_W} {K : zm_K} (H : zm_H Ω K) (a0 : zm_R) : zm_Ct l Ω yX2_boxes (ws_ yX2_boxes cX2_boxes 1 (Option.some Jvm.ClassFile.FieldType.int)) 2 84 [va_rf a0] zm_tvI (fn_X2_boxes K a0) := by
  refine zm_ct H.1 (by decide +kernel) (zl_le (zl_R zl_nil) (Nat.le_of_ble_eq_true rfl)) ?_
  intro p e R s m args below meth c n0 k0 C hX ls hl
  have hx := C.1
  have hb := C.2.1
  simp only [zg_R, zg_nil] at hl
  have hl : lv_has ls 1 [(0, va_rf a0)] := hl
  refine rk_rf ?_
  unfold fn_X2_boxes
  refine rk_of (fun _ _ _ _ _ k => lr_aload_n hx hb dX2_boxes_0 rfl (lv_at hl 0 rfl) k) ?_
  refine rk_get zm_rdR_eq C (hc_X2 H) (k := 0) (Nat.le_of_ble_eq_true rfl) in_X2 q197 (fun _ h => h) dX2_boxes_1 (fun v1 => ?_)
  refine rk_callI hX (cl_dsp (fun ci => cl_case (cl_F (n := 0) (rest := []) (av := []) C (hc_J2 H) (ct_J2_size H v1) (lw_F q1054 q1057 q752 q105 q753) (zh_Fw H C (by decide) q1056 q1055 q1059 q1058 q309) (by decide +kernel) ⟨(Nat.le_of_ble_eq_true rfl), (Nat.le_of_ble_eq_true rfl)⟩ rfl hl.1 rfl (zw_le zw_nil (Nat.le_of_ble_eq_true rfl)) dX2_boxes_4) (cl_case (cl_F (n := 0) (rest := []) (av := []) C (hc_J4 H) (ct_J4_size H v1) (lw_F q1054 q1060 q755 q107 q756) (zh_Fw H C (by decide) q1056 q1055 q1062 q1061 q336) (by decide +kernel) ⟨(Nat.le_of_ble_eq_true rfl), (Nat.le_of_ble_eq_true rfl)⟩ rfl hl.1 rfl (zw_le zw_nil (Nat.le_of_ble_eq_true rfl)) dX2_boxes_4) (cl_fl)))) (fun v4 => ?_)
  exact rk_top (rf_iret C rfl dX2_boxes_9)
theorem hd_J9_init_4 : yJ9_init_4.cls ≠ "java/lang/invoke/MethodHandle" ∧ yJ9_init_4.cls ≠ "java/lang/invoke/VarHandle" ∧ (parseMethodDescriptor yJ9_init_4.desc).map (fun d => d.parameters.length) = some 2 := by decide +kernel
noncomputable def fn_J9_init_4 (K : zm_K) (a0 : zm_R) (a1 : zm_R) (a2 : zm_R) : zm_M Unit :=
  zm_bnd (zm_grd (a0 ≠ none)) fun _ =>
  zm_bnd (zm_tb a0 [(5, 0), (8, 0), (12, 0), (13, 0), (14, 2), (15, 0), (16, 2), (17, 2), (21, 0), (28, 0)] fun ci k => zm_putF K a0 ci k (va_rf a0)) fun _ =>
  zm_bnd (zm_tb a0 [(5, 1), (8, 1), (12, 1), (13, 1), (14, 3), (15, 1), (16, 3), (17, 3), (21, 1), (28, 1)] fun ci k => zm_putF K a0 ci k (va_rf (K.2 4))) fun _ =>
  zm_bnd (zm_tb a0 [(5, 2), (8, 2), (12, 2), (13, 2), (14, 5), (15, 2), (16, 5), (17, 5), (21, 2), (28, 2)] fun ci k => zm_putF K a0 ci k (va_rf (K.2 3))) fun _ =>
  zm_bnd (zm_tb a0 [(5, 1), (8, 1), (12, 1), (13, 1), (14, 3), (15, 1), (17, 3), (21, 1), (28, 1)] fun ci k => zm_filF K a0 ci k) fun _ =>
  zm_bnd (zm_tb a0 [(5, 3), (8, 3), (12, 3), (13, 3), (14, 1), (15, 3), (16, 1), (17, 1), (21, 3), (28, 3)] fun ci k => zm_putF K a0 ci k (va_rf a1)) fun _ =>
  zm_bnd (zm_tb a0 [(5, 0), (8, 0), (12, 0), (13, 0), (14, 2), (15, 0), (16, 2), (17, 2), (21, 0), (28, 0)] fun ci k => zm_putF K a0 ci k (va_rf a2)) fun _ =>
  zm_ret ()
theorem ct_J9_init_4 {l : Launch} {Ω : zm_W} {K : zm_K} (H : zm_H Ω K) (a0 : zm_R) (a1 : zm_R) (a2 : zm_R) : zm_Ct l Ω yJ9_init_4 (ws_ yJ9_init_4 cJ9_init_4 3 (Option.none : Option Jvm.ClassFile.FieldType)) 4 128 [va_rf a0, va_rf a1, va_rf a2] zm_tvV (fn_J9_init_4 K a0 a1 a2) := by
  refine zm_ct H.1 (by decide +kernel) (zl_le (zl_R (zl_R (zl_R zl_nil))) (Nat.le_of_ble_eq_true rfl)) ?_
  intro p e R s m args below meth c n0 k0 C hX ls hl
  have hx := C.1
  have hb := C.2.1
  simp only [zg_R, zg_nil] at hl
  have hl : lv_has ls 3 [(0, va_rf a0), (1, va_rf a1), (2, va_rf a2)] := hl
  refine rk_rf ?_
  unfold fn_J9_init_4
  refine rk_of (fun _ _ _ _ _ k => lr_aload_n hx hb dJ9_init_4_0 rfl (lv_at hl 0 rfl) k) ?_
  refine rk_grd (fun hg_1 => ?_)
  refine rk_of (fun _ _ _ _ _ k => zo_init C hl.1 q383 q156 q157 hg_1 (Nat.le_of_ble_eq_true rfl) (zw_le12 zw_nil (Nat.le_of_ble_eq_true rfl)) dJ9_init_4_1 k) ?_
  refine rk_of (fun _ _ _ _ _ k => lr_aload_n hx hb dJ9_init_4_4 rfl (lv_at hl 0 rfl) (lr_aload_n hx hb dJ9_init_4_5 rfl (lv_at hl 0 rfl) k)) ?_
  refine rk_putT C H.2.2.1 (tb_cons ⟨_, _, _, tyJ12, hc_J12 H, (Nat.le_of_ble_eq_true rfl), in_J12, tyJ12_ok, nmJ12, rfl, rfl⟩ (tb_cons ⟨_, _, _, tyJ19, hc_J19 H, (Nat.le_of_ble_eq_true rfl), in_J19, tyJ19_ok, nmJ19, rfl, rfl⟩ (tb_cons ⟨_, _, _, tyJ26, hc_J26 H, (Nat.le_of_ble_eq_true rfl), in_J26, tyJ26_ok, nmJ26, rfl, rfl⟩ (tb_cons ⟨_, _, _, tyJ28, hc_J28 H, (Nat.le_of_ble_eq_true rfl), in_J28, tyJ28_ok, nmJ28, rfl, rfl⟩ (tb_cons ⟨_, _, _, tyJ29, hc_J29 H, (Nat.le_of_ble_eq_true rfl), in_J29, tyJ29_ok, nmJ29, rfl, rfl⟩ (tb_cons ⟨_, _, _, tyJ30, hc_J30 H, (Nat.le_of_ble_eq_true rfl), in_J30, tyJ30_ok, nmJ30, rfl, rfl⟩ (tb_cons ⟨_, _, _, tyJ31, hc_J31 H, (Nat.le_of_ble_eq_true rfl), in_J31, tyJ31_ok, nmJ31, rfl, rfl⟩ (tb_cons ⟨_, _, _, tyJ32, hc_J32 H, (Nat.le_of_ble_eq_true rfl), in_J32, tyJ32_ok, nmJ32, rfl, rfl⟩ (tb_cons ⟨_, _, _, tyX4, hc_X4 H, (Nat.le_of_ble_eq_true rfl), in_X4, tyX4_ok, nmX4, rfl, rfl⟩ (tb_cons ⟨_, _, _, tyX12, hc_X12 H, (Nat.le_of_ble_eq_true rfl), in_X12, tyX12_ok, nmX12, rfl, rfl⟩ (tb_nil))))))))))) q624 (zn_R rfl _) (zp_R rfl _) dJ9_init_4_6 ?_
  refine rk_of (fun _ _ _ _ _ k => lr_aload_n hx hb dJ9_init_4_9 rfl (lv_at hl 0 rfl) k) ?_
  refine rk_gets C (zh_st4 H) q384 (fun _ h => h) dJ9_init_4_10 ?_
  refine rk_putT C H.2.2.1 (tb_cons ⟨_, _, _, tyJ12, hc_J12 H, (Nat.le_of_ble_eq_true rfl), in_J12, tyJ12_ok, nmJ12, rfl, rfl⟩ (tb_cons ⟨_, _, _, tyJ19, hc_J19 H, (Nat.le_of_ble_eq_true rfl), in_J19, tyJ19_ok, nmJ19, rfl, rfl⟩ (tb_cons ⟨_, _, _, tyJ26, hc_J26 H, (Nat.le_of_ble_eq_true rfl), in_J26, tyJ26_ok, nmJ26, rfl, rfl⟩ (tb_cons ⟨_, _, _, tyJ28, hc_J28 H, (Nat.le_of_ble_eq_true rfl), in_J28, tyJ28_ok, nmJ28, rfl, rfl⟩ (tb_cons ⟨_, _, _, tyJ29, hc_J29 H, (Nat.le_of_ble_eq_true rfl), in_J29, tyJ29_ok, nmJ29, rfl, rfl⟩ (tb_cons ⟨_, _, _, tyJ30, hc_J30 H, (Nat.le_of_ble_eq_true rfl), in_J30, tyJ30_ok, nmJ30, rfl, rfl⟩ (tb_cons ⟨_, _, _, tyJ31, hc_J31 H, (Nat.le_of_ble_eq_true rfl), in_J31, tyJ31_ok, nmJ31, rfl, rfl⟩ (tb_cons ⟨_, _, _, tyJ32, hc_J32 H, (Nat.le_of_ble_eq_true rfl), in_J32, tyJ32_ok, nmJ32, rfl, rfl⟩ (tb_cons ⟨_, _, _, tyX4, hc_X4 H, (Nat.le_of_ble_eq_true rfl), in_X4, tyX4_ok, nmX4, rfl, rfl⟩ (tb_cons ⟨_, _, _, tyX12, hc_X12 H, (Nat.le_of_ble_eq_true rfl), in_X12, tyX12_ok, nmX12, rfl, rfl⟩ (tb_nil))))))))))) q625 (zn_R rfl _) (zp_R rfl _) dJ9_init_4_13 ?_
  refine rk_of (fun _ _ _ _ _ k => lr_aload_n hx hb dJ9_init_4_16 rfl (lv_at hl 0 rfl) k) ?_
  refine rk_gets C (zh_st3 H) q386 (fun _ h => h) dJ9_init_4_17 ?_
  refine rk_putT C H.2.2.1 (tb_cons ⟨_, _, _, tyJ12, hc_J12 H, (Nat.le_of_ble_eq_true rfl), in_J12, tyJ12_ok, nmJ12, rfl, rfl⟩ (tb_cons ⟨_, _, _, tyJ19, hc_J19 H, (Nat.le_of_ble_eq_true rfl), in_J19, tyJ19_ok, nmJ19, rfl, rfl⟩ (tb_cons ⟨_, _, _, tyJ26, hc_J26 H, (Nat.le_of_ble_eq_true rfl), in_J26, tyJ26_ok, nmJ26, rfl, rfl⟩ (tb_cons ⟨_, _, _, tyJ28, hc_J28 H, (Nat.le_of_ble_eq_true rfl), in_J28, tyJ28_ok, nmJ28, rfl, rfl⟩ (tb_cons ⟨_, _, _, tyJ29, hc_J29 H, (Nat.le_of_ble_eq_true rfl), in_J29, tyJ29_ok, nmJ29, rfl, rfl⟩ (tb_cons ⟨_, _, _, tyJ30, hc_J30 H, (Nat.le_of_ble_eq_true rfl), in_J30, tyJ30_ok, nmJ30, rfl, rfl⟩ (tb_cons ⟨_, _, _, tyJ31, hc_J31 H, (Nat.le_of_ble_eq_true rfl), in_J31, tyJ31_ok, nmJ31, rfl, rfl⟩ (tb_cons ⟨_, _, _, tyJ32, hc_J32 H, (Nat.le_of_ble_eq_true rfl), in_J32, tyJ32_ok, nmJ32, rfl, rfl⟩ (tb_cons ⟨_, _, _, tyX4, hc_X4 H, (Nat.le_of_ble_eq_true rfl), in_X4, tyX4_ok, nmX4, rfl, rfl⟩ (tb_cons ⟨_, _, _, tyX12, hc_X12 H, (Nat.le_of_ble_eq_true rfl), in_X12, tyX12_ok, nmX12, rfl, rfl⟩ (tb_nil))))))))))) q626 (zn_R rfl _) (zp_R rfl _) dJ9_init_4_20 ?_
  refine rk_of (fun _ _ _ _ _ k => lr_aload_n hx hb dJ9_init_4_23 rfl (lv_at hl 0 rfl) k) ?_
  refine rk_filT H C (zh_thr H C) (tb_cons ⟨_, _, _, tyJ12, hc_J12 H, (Nat.le_of_ble_eq_true rfl), in_J12, tyJ12_ok, nmJ12, rfl, (C.2.2.2.1 _ q395), (C.2.2.2.1 _ q598)⟩ (tb_cons ⟨_, _, _, tyJ19, hc_J19 H, (Nat.le_of_ble_eq_true rfl), in_J19, tyJ19_ok, nmJ19, rfl, (C.2.2.2.1 _ q368), (C.2.2.2.1 _ q367)⟩ (tb_cons ⟨_, _, _, tyJ26, hc_J26 H, (Nat.le_of_ble_eq_true rfl), in_J26, tyJ26_ok, nmJ26, rfl, (C.2.2.2.1 _ q399), (C.2.2.2.1 _ q789)⟩ (tb_cons ⟨_, _, _, tyJ28, hc_J28 H, (Nat.le_of_ble_eq_true rfl), in_J28, tyJ28_ok, nmJ28, rfl, (C.2.2.2.1 _ q398), (C.2.2.2.1 _ q1358)⟩ (tb_cons ⟨_, _, _, tyJ29, hc_J29 H, (Nat.le_of_ble_eq_true rfl), in_J29, tyJ29_ok, nmJ29, rfl, (C.2.2.2.1 _ q394), (C.2.2.2.1 _ q1388)⟩ (tb_cons ⟨_, _, _, tyJ30, hc_J30 H, (Nat.le_of_ble_eq_true rfl), in_J30, tyJ30_ok, nmJ30, rfl, (C.2.2.2.1 _ q396), (C.2.2.2.1 _ q1932)⟩ (tb_cons ⟨_, _, _, tyJ32, hc_J32 H, (Nat.le_of_ble_eq_true rfl), in_J32, tyJ32_ok, nmJ32, rfl, (C.2.2.2.1 _ q393), (C.2.2.2.1 _ q2523)⟩ (tb_cons ⟨_, _, _, tyX4, hc_X4 H, (Nat.le_of_ble_eq_true rfl), in_X4, tyX4_ok, nmX4, rfl, (C.2.2.2.1 _ q391), (C.2.2.2.1 _ q1155)⟩ (tb_cons ⟨_, _, _, tyX12, hc_X12 H, (Nat.le_of_ble_eq_true rfl), in_X12, tyX12_ok, nmX12, rfl, (C.2.2.2.1 _ q392), (C.2.2.2.1 _ q2147)⟩ (tb_nil)))))))))) q388 (Nat.le_of_ble_eq_true rfl) (zw_ad zw_nil (Nat.le_of_ble_eq_true rfl)) hl.1 dJ9_init_4_24 ?_
  refine rk_of (fun _ _ _ _ _ k => lv_pop hx hb dJ9_init_4_27 (va_rf_cat _) (lr_aload_n hx hb dJ9_init_4_28 rfl (lv_at hl 0 rfl) (lr_aload_n hx hb dJ9_init_4_29 rfl (lv_at hl 1 rfl) k))) ?_
  refine rk_putT C H.2.2.1 (tb_cons ⟨_, _, _, tyJ12, hc_J12 H, (Nat.le_of_ble_eq_true rfl), in_J12, tyJ12_ok, nmJ12, rfl, rfl⟩ (tb_cons ⟨_, _, _, tyJ19, hc_J19 H, (Nat.le_of_ble_eq_true rfl), in_J19, tyJ19_ok, nmJ19, rfl, rfl⟩ (tb_cons ⟨_, _, _, tyJ26, hc_J26 H, (Nat.le_of_ble_eq_true rfl), in_J26, tyJ26_ok, nmJ26, rfl, rfl⟩ (tb_cons ⟨_, _, _, tyJ28, hc_J28 H, (Nat.le_of_ble_eq_true rfl), in_J28, tyJ28_ok, nmJ28, rfl, rfl⟩ (tb_cons ⟨_, _, _, tyJ29, hc_J29 H, (Nat.le_of_ble_eq_true rfl), in_J29, tyJ29_ok, nmJ29, rfl, rfl⟩ (tb_cons ⟨_, _, _, tyJ30, hc_J30 H, (Nat.le_of_ble_eq_true rfl), in_J30, tyJ30_ok, nmJ30, rfl, rfl⟩ (tb_cons ⟨_, _, _, tyJ31, hc_J31 H, (Nat.le_of_ble_eq_true rfl), in_J31, tyJ31_ok, nmJ31, rfl, rfl⟩ (tb_cons ⟨_, _, _, tyJ32, hc_J32 H, (Nat.le_of_ble_eq_true rfl), in_J32, tyJ32_ok, nmJ32, rfl, rfl⟩ (tb_cons ⟨_, _, _, tyX4, hc_X4 H, (Nat.le_of_ble_eq_true rfl), in_X4, tyX4_ok, nmX4, rfl, rfl⟩ (tb_cons ⟨_, _, _, tyX12, hc_X12 H, (Nat.le_of_ble_eq_true rfl), in_X12, tyX12_ok, nmX12, rfl, rfl⟩ (tb_nil))))))))))) q623 (zn_R rfl _) (zp_R rfl _) dJ9_init_4_30 ?_
  refine rk_of (fun _ _ _ _ _ k => lr_aload_n hx hb dJ9_init_4_33 rfl (lv_at hl 0 rfl) (lr_aload_n hx hb dJ9_init_4_34 rfl (lv_at hl 2 rfl) k)) ?_
  refine rk_putT C H.2.2.1 (tb_cons ⟨_, _, _, tyJ12, hc_J12 H, (Nat.le_of_ble_eq_true rfl), in_J12, tyJ12_ok, nmJ12, rfl, rfl⟩ (tb_cons ⟨_, _, _, tyJ19, hc_J19 H, (Nat.le_of_ble_eq_true rfl), in_J19, tyJ19_ok, nmJ19, rfl, rfl⟩ (tb_cons ⟨_, _, _, tyJ26, hc_J26 H, (Nat.le_of_ble_eq_true rfl), in_J26, tyJ26_ok, nmJ26, rfl, rfl⟩ (tb_cons ⟨_, _, _, tyJ28, hc_J28 H, (Nat.le_of_ble_eq_true rfl), in_J28, tyJ28_ok, nmJ28, rfl, rfl⟩ (tb_cons ⟨_, _, _, tyJ29, hc_J29 H, (Nat.le_of_ble_eq_true rfl), in_J29, tyJ29_ok, nmJ29, rfl, rfl⟩ (tb_cons ⟨_, _, _, tyJ30, hc_J30 H, (Nat.le_of_ble_eq_true rfl), in_J30, tyJ30_ok, nmJ30, rfl, rfl⟩ (tb_cons ⟨_, _, _, tyJ31, hc_J31 H, (Nat.le_of_ble_eq_true rfl), in_J31, tyJ31_ok, nmJ31, rfl, rfl⟩ (tb_cons ⟨_, _, _, tyJ32, hc_J32 H, (Nat.le_of_ble_eq_true rfl), in_J32, tyJ32_ok, nmJ32, rfl, rfl⟩ (tb_cons ⟨_, _, _, tyX4, hc_X4 H, (Nat.le_of_ble_eq_true rfl), in_X4, tyX4_ok, nmX4, rfl, rfl⟩ (tb_cons ⟨_, _, _, tyX12, hc_X12 H, (Nat.le_of_ble_eq_true rfl), in_X12, tyX12_ok, nmX12, rfl, rfl⟩ (tb_nil))))))))))) q624 (zn_R rfl _) (zp_R rfl _) dJ9_init_4_35 ?_
  exact rk_top (rf_vret C dJ9_init_4_38)
theorem hd_J10_init_4 : yJ10_init_4.cls ≠ "java/lang/invoke/MethodHandle" ∧ yJ10_init_4.cls ≠ "java/lang/invoke/VarHandle" ∧ (parseMethodDescriptor yJ10_init_4.desc).map (fun d => d.parameters.length) = some 2 := by decide +kernel
noncomputable def fn_J10_init_4 (K : zm_K) (a0 : zm_R) (a1 : zm_R) (a2 : zm_R) : zm_M Unit :=
  zm_bnd (zm_bnd (zm_nn a0) fun _ => fn_J9_init_4 K a0 a1 a2) fun _ =>
  zm_ret ()
theorem ct_J10_init_4 {l : Launch} {Ω : zm_W} {K : zm_K} (H : zm_H Ω K) (a0 : zm_R) (a1 : zm_R) (a2 : zm_R) : zm_Ct l Ω yJ10_init_4 (ws_ yJ10_init_4 cJ10_init_4 3 (Option.none : Option Jvm.ClassFile.FieldType)) 5 150 [va_rf a0, va_rf a1, va_rf a2] zm_tvV (fn_J10_init_4 K a0 a1 a2) := by
  refine zm_ct H.1 (by decide +kernel) (zl_le (zl_R (zl_R (zl_R zl_nil))) (Nat.le_of_ble_eq_true rfl)) ?_
  intro p e R s m args below meth c n0 k0 C hX ls hl
  have hx := C.1
  have hb := C.2.1
  simp only [zg_R, zg_nil] at hl
  have hl : lv_has ls 3 [(0, va_rf a0), (1, va_rf a1), (2, va_rf a2)] := hl
  refine rk_rf ?_
  unfold fn_J10_init_4
  refine rk_of (fun _ _ _ _ _ k => lr_aload_n hx hb dJ10_init_4_0 rfl (lv_at hl 0 rfl) (lr_aload_n hx hb dJ10_init_4_1 rfl (lv_at hl 1 rfl) (lr_aload_n hx hb dJ10_init_4_2 rfl (lv_at hl 2 rfl) k))) ?_
  refine rk_callV hX (cl_Ir (rest := []) C (ct_J9_init_4 H a0 a1 a2) (lw_meth q1169) q113 q1167 q1168 rfl hd_J9_init_4 ⟨(Nat.le_of_ble_eq_true rfl), (Nat.le_of_ble_eq_true rfl)⟩ rfl hl.1 rfl (zw_le zw_nil (Nat.le_of_ble_eq_true rfl)) dJ10_init_4_3) (fun _ => ?_)
  exact rk_top (rf_vret C dJ10_init_4_6)
theorem hd_X4_init : yX4_init.cls ≠ "java/lang/invoke/MethodHandle" ∧ yX4_init.cls ≠ "java/lang/invoke/VarHandle" ∧ (parseMethodDescriptor yX4_init.desc).map (fun d => d.parameters.length) = some 3 := by decide +kernel
noncomputable def fn_X4_init (K : zm_K) (a0 : zm_R) (a1 : Int32) (a2 : Int32) (a3 : zm_R) : zm_M Unit :=
  zm_bnd (zm_bnd (zm_nn a0) fun _ => fn_J10_init_4 K a0 none a3) fun _ =>
  zm_bnd (zm_putF K a0 21 6 (.int a1)) fun _ =>
  zm_bnd (zm_putF K a0 21 7 (.int a2)) fun _ =>
  zm_ret ()
theorem ct_X4_init {l : Launch} {Ω : zm_W} {K : zm_K} (H : zm_H Ω K) (a0 : zm_R) (a1 : Int32) (a2 : Int32) (a3 : zm_R) : zm_Ct l Ω yX4_init (ws_ yX4_init cX4_init 4 (Option.none : Option Jvm.ClassFile.FieldType)) 6 172 [va_rf a0, .int a1, .int a2, va_rf a3] zm_tvV (fn_X4_init K a0 a1 a2 a3) := by
  refine zm_ct H.1 (by decide +kernel) (zl_le (zl_R (zl_I (zl_I (zl_R zl_nil)))) (Nat.le_of_ble_eq_true rfl)) ?_
  intro p e R s m args below meth c n0 k0 C hX ls hl
  have hx := C.1
  have hb := C.2.1
  simp only [zg_I, zg_R, zg_nil] at hl
  have hl : lv_has ls 4 [(0, va_rf a0), (1, .int a1), (2, .int a2), (3, va_rf a3)] := hl
  refine rk_rf ?_
  unfold fn_X4_init
  refine rk_of (fun _ _ _ _ _ k => lr_aload_n hx hb dX4_init_0 rfl (lv_at hl 0 rfl) (lr_null hx hb dX4_init_1 (lr_aload_n hx hb dX4_init_2 rfl (lv_at hl 3 rfl) k))) ?_
  refine rk_callV hX (cl_Ir (rest := []) C (ct_J10_init_4 H a0 none a3) (lw_meth q1166) q114 q1164 q1165 rfl hd_J10_init_4 ⟨(Nat.le_of_ble_eq_true rfl), (Nat.le_of_ble_eq_true rfl)⟩ rfl hl.1 rfl (zw_le zw_nil (Nat.le_of_ble_eq_true rfl)) dX4_init_3) (fun _ => ?_)
  refine rk_of (fun _ _ _ _ _ k => lr_aload_n hx hb dX4_init_6 rfl (lv_at hl 0 rfl) (lv_iload_n hx hb dX4_init_7 rfl (lv_at hl 1 rfl) k)) ?_
  refine rk_put C H.2.2.1 (hc_X4 H) (k := 6) (Nat.le_of_ble_eq_true rfl) in_X4 (ty0 := tyX4) tyX4_ok nmX4 q1170 (fun _ h => h) (Or.inr ⟨rfl, rfl, rfl⟩) rfl rfl dX4_init_8 ?_
  refine rk_of (fun _ _ _ _ _ k => lr_aload_n hx hb dX4_init_11 rfl (lv_at hl 0 rfl) (lv_iload_n hx hb dX4_init_12 rfl (lv_at hl 2 rfl) k)) ?_
  refine rk_put C H.2.2.1 (hc_X4 H) (k := 7) (Nat.le_of_ble_eq_true rfl) in_X4 (ty0 := tyX4) tyX4_ok nmX4 q1171 (fun _ h => h) (Or.inr ⟨rfl, rfl, rfl⟩) rfl rfl dX4_init_13 ?_
  exact rk_top (rf_vret C dX4_init_16)
theorem hd_X1_meet : yX1_meet.cls ≠ "java/lang/invoke/MethodHandle" ∧ yX1_meet.cls ≠ "java/lang/invoke/VarHandle" ∧ (parseMethodDescriptor yX1_meet.desc).map (fun d => d.parameters.length) = some 3 := by decide +kernel
noncomputable def fn_X1_meet (K : zm_K) (a0 : Int32) (a1 : Int32) (a2 : Int32) : zm_M Unit :=
  if a0 = 0 then
    zm_bnd (zm_new 21 [.null, .null, .null, .null, .null, .int 0, .int 0, .int 0]) fun v4 =>
    zm_bnd (fn_X4_init K (some v4) a1 a2 none) fun _ =>
    zm_ath (some v4)
  else
    zm_ret ()
theorem ct_X1_meet {l : Launch} {Ω : zm_W} {K : zm_K} (H : zm_H Ω K) (a0 : Int32) (a1 : Int32) (a2 : Int32) : zm_Ct l Ω yX1_meet (ws_ yX1_meet cX1_meet 3 (Option.none : Option Jvm.ClassFile.FieldType)) 7 195 [.int a0, .int a1, .int a2] zm_tvV (fn_X1_meet K a0 a1 a2) := by
  refine zm_ct H.1 (by decide +kernel) (zl_le (zl_I (zl_I (zl_I zl_nil))) (Nat.le_of_ble_eq_true rfl)) ?_
  intro p e R s m args below meth c n0 k0 C hX ls hl
  have hx := C.1
  have hb := C.2.1
  simp only [zg_I, zg_nil] at hl
  have hl : lv_has ls 3 [(0, .int a0), (1, .int a1), (2, .int a2)] := hl
  refine rk_rf ?_
  unfold fn_X1_meet
  refine rk_ite (fun _ _ _ _ _ k1 k2 => lv_iload_n hx hb dX1_meet_0 rfl (lv_at hl 0 rfl) (lv_if_ne (tgt := 15) hx hb dX1_meet_1 (by decide) k2 k1)) (fun c_1 => ?_) (fun c_1 => ?_)
  · refine rk_new C (hc_X4 H) in_X4 tyX4_ok q1152 q1153 q117 (fs := [.null, .null, .null, .null, .null, .int 0, .int 0, .int 0]) rfl (fun j hj => zdf_X4 j hj) dX1_meet_4 (fun v4 => ?_)
    refine rk_of (fun _ _ _ _ _ k => lv_dup hx hb dX1_meet_7 (va_rf_cat _) (lv_iload_n hx hb dX1_meet_8 rfl (lv_at hl 1 rfl) (lv_iload_n hx hb dX1_meet_9 rfl (lv_at hl 2 rfl) (lr_null hx hb dX1_meet_10 k)))) ?_
    refine rk_callV hX (cl_I (rest := [va_rf (some v4)]) C (ct_X4_init H (some v4) a1 a2 none) (lw_meth q1163) q117 q1161 q1162 rfl hd_X4_init ⟨(Nat.le_of_ble_eq_true rfl), (Nat.le_of_ble_eq_true rfl)⟩ rfl hl.1 rfl (zw_le (zw_R zw_nil) (Nat.le_of_ble_eq_true rfl)) dX1_meet_11) (fun _ => ?_)
    exact rk_ath H C hX dX1_meet_14
  · exact rk_top (rf_vret C dX1_meet_15)
theorem hd_J13_init : yJ13_init.cls ≠ "java/lang/invoke/MethodHandle" ∧ yJ13_init.cls ≠ "java/lang/invoke/VarHandle" ∧ (parseMethodDescriptor yJ13_init.desc).map (fun d => d.parameters.length) = some 0 := by decide +kernel
noncomputable def fn_J13_init (K : zm_K) (a0 : zm_R) : zm_M Unit :=
  zm_bnd (zm_grd (a0 ≠ none)) fun _ =>
  zm_ret ()
theorem ct_J13_init {l : Launch} {Ω : zm_W} {K : zm_K} (H : zm_H Ω K) (a0 : zm_R) : zm_Ct l Ω yJ13_init (ws_ yJ13_init cJ13_init 1 (Option.none : Option Jvm.ClassFile.FieldType)) 2 84 [va_rf a0] zm_tvV (fn_J13_init K a0) := by
  refine zm_ct H.1 (by decide +kernel) (zl_le (zl_R zl_nil) (Nat.le_of_ble_eq_true rfl)) ?_
  intro p e R s m args below meth c n0 k0 C hX ls hl
  have hx := C.1
  have hb := C.2.1
  simp only [zg_R, zg_nil] at hl
  have hl : lv_has ls 1 [(0, va_rf a0)] := hl
  refine rk_rf ?_
  unfold fn_J13_init
  refine rk_of (fun _ _ _ _ _ k => lr_aload_n hx hb dJ13_init_0 rfl (lv_at hl 0 rfl) k) ?_
  refine rk_grd (fun hg_1 => ?_)
  refine rk_of (fun _ _ _ _ _ k => zo_init C hl.1 q1193 q156 q157 hg_1 (Nat.le_of_ble_eq_true rfl) (zw_le12 zw_nil (Nat.le_of_ble_eq_true rfl)) dJ13_init_1 k) ?_
  exact rk_top (rf_vret C dJ13_init_4)
theorem hd_J14_init : yJ14_init.cls ≠ "java/lang/invoke/MethodHandle" ∧ yJ14_init.cls ≠ "java/lang/invoke/VarHandle" ∧ (parseMethodDescriptor yJ14_init.desc).map (fun d => d.parameters.length) = some 1 := by decide +kernel
noncomputable def fn_J14_init (K : zm_K) (a0 : zm_R) (a1 : Int32) : zm_M Unit :=
  zm_bnd (zm_bnd (zm_nn a0) fun _ => fn_J13_init K a0) fun _ =>
  zm_bnd (zm_putF K a0 6 0 (.int a1)) fun _ =>
  zm_ret ()
theorem ct_J14_init {l : Launch} {Ω : zm_W} {K : zm_K} (H : zm_H Ω K) (a0 : zm_R) (a1 : Int32) : zm_Ct l Ω yJ14_init (ws_ yJ14_init cJ14_init 2 (Option.none : Option Jvm.ClassFile.FieldType)) 3 104 [va_rf a0, .int a1] zm_tvV (fn_J14_init K a0 a1) := by
  refine zm_ct H.1 (by decide +kernel) (zl_le (zl_R (zl_I zl_nil)) (Nat.le_of_ble_eq_true rfl)) ?_
  intro p e R s m args below meth c n0 k0 C hX ls hl
  have hx := C.1
  have hb := C.2.1
  simp only [zg_I, zg_R, zg_nil] at hl
  have hl : lv_has ls 2 [(0, va_rf a0), (1, .int a1)] := hl
  refine rk_rf ?_
  unfold fn_J14_init
  refine rk_of (fun _ _ _ _ _ k => lr_aload_n hx hb dJ14_init_0 rfl (lv_at hl 0 rfl) k) ?_
  refine rk_callV hX (cl_Ir (rest := []) C (ct_J13_init H a0) (lw_meth q1192) q118 q1190 q1191 rfl hd_J13_init ⟨(Nat.le_of_ble_eq_true rfl), (Nat.le_of_ble_eq_true rfl)⟩ rfl hl.1 rfl (zw_le zw_nil (Nat.le_of_ble_eq_true rfl)) dJ14_init_1) (fun _ => ?_)
  refine rk_of (fun _ _ _ _ _ k => lr_aload_n hx hb dJ14_init_4 rfl (lv_at hl 0 rfl) (lv_iload_n hx hb dJ14_init_5 rfl (lv_at hl 1 rfl) k)) ?_
  refine rk_put C H.2.2.1 (hc_J14 H) (k := 0) (Nat.le_of_ble_eq_true rfl) in_J14 (ty0 := tyJ14) tyJ14_ok nmJ14 q1194 (fun _ h => h) (Or.inr ⟨rfl, rfl, rfl⟩) rfl rfl dJ14_init_6 ?_
  exact rk_top (rf_vret C dJ14_init_9)
theorem hd_J14_valueOf : yJ14_valueOf.cls ≠ "java/lang/invoke/MethodHandle" ∧ yJ14_valueOf.cls ≠ "java/lang/invoke/VarHandle" ∧ (parseMethodDescriptor yJ14_valueOf.desc).map (fun d => d.parameters.length) = some 1 := by decide +kernel
noncomputable def fn_J14_valueOf (K : zm_K) (a0 : Int32) : zm_M zm_R :=
  zm_bnx (β := Unit) (
      if a0 < (-128) then
        zm_ret (Sum.inl ())
      else
        if 127 < a0 then
          zm_ret (Sum.inl ())
        else
          zm_bnd (zm_aldR (K.2 2) (a0 + 128)) fun v21 =>
          zm_ret (Sum.inr v21)
    ) fun (_ : Unit) =>
  zm_bnd (zm_new 6 [.int 0]) fun v23 =>
  zm_bnd (fn_J14_init K (some v23) a0) fun _ =>
  zm_ret (some v23)
theorem ct_J14_valueOf {l : Launch} {Ω : zm_W} {K : zm_K} (H : zm_H Ω K) (a0 : Int32) : zm_Ct l Ω yJ14_valueOf (ws_ yJ14_valueOf cJ14_valueOf 1 (Option.some (Jvm.ClassFile.FieldType.object "java/lang/Integer"))) 4 125 [.int a0] zm_tvR (fn_J14_valueOf K a0) := by
  refine zm_ct H.1 (by decide +kernel) (zl_le (zl_I zl_nil) (Nat.le_of_ble_eq_true rfl)) ?_
  intro p e R s m args below meth c n0 k0 C hX ls hl
  have hx := C.1
  have hb := C.2.1
  simp only [zg_I, zg_nil] at hl
  have hl : lv_has ls 1 [(0, .int a0)] := hl
  refine rk_rf ?_
  unfold fn_J14_valueOf
  refine rk_of (fun _ _ _ _ _ k => lv_iload_n hx hb dJ14_valueOf_0 rfl (lv_at hl 0 rfl) (lv_bipush (v := (-128)) hx hb dJ14_valueOf_1 rfl k)) ?_
  refine rk_joinx (β := Unit) (fun (b23 : Unit) ls => lv_has ls 1 [(0, .int a0)]) (fun (b23 : Unit) ls => F0 m 23 ls []) (fun b23 ls hl => ?_) (fun hJ23 => ?_)
  · refine rk_new C (hc_J14 H) in_J14 tyJ14_ok q1185 q1186 q119 (fs := [.int 0]) rfl (fun j hj => zdf_J14 j hj) dJ14_valueOf_23 (fun v23 => ?_)
    refine rk_of (fun _ _ _ _ _ k => lv_dup hx hb dJ14_valueOf_26 (va_rf_cat _) (lv_iload_n hx hb dJ14_valueOf_27 rfl (lv_at hl 0 rfl) k)) ?_
    refine rk_callV hX (cl_I (rest := [va_rf (some v23)]) C (ct_J14_init H (some v23) a0) (lw_meth q1189) q119 q1187 q1188 rfl hd_J14_init ⟨(Nat.le_of_ble_eq_true rfl), (Nat.le_of_ble_eq_true rfl)⟩ rfl hl.1 rfl (zw_le (zw_R zw_nil) (Nat.le_of_ble_eq_true rfl)) dJ14_valueOf_28) (fun _ => ?_)
    exact rk_top (rf_aret C (Or.inl ⟨_, rfl⟩) dJ14_valueOf_31)
  · refine rk_ite (fun _ _ _ _ _ k1 k2 => lv_icmp_lt (tgt := 23) hx hb dJ14_valueOf_3 (by decide) k1 k2) (fun c_3 => ?_) (fun c_3 => ?_)
    · exact hJ23 () ls (lv_sub hl [0] rfl)
    · refine rk_of (fun _ _ _ _ _ k => lv_iload_n hx hb dJ14_valueOf_6 rfl (lv_at hl 0 rfl) k) ?_
      refine rk_gets C (zh_it0 H) q1181 (fun _ h => h) dJ14_valueOf_7 ?_
      refine rk_ite (fun _ _ _ _ _ k1 k2 => lv_icmp_gt (tgt := 23) hx hb dJ14_valueOf_10 (by decide) k1 k2) (fun c_10 => ?_) (fun c_10 => ?_)
      · exact hJ23 () ls (lv_sub hl [0] rfl)
      · refine rk_gets C (zh_st2 H) q1183 (fun _ h => h) dJ14_valueOf_13 ?_
        refine rk_of (fun _ _ _ _ _ k => lv_iload_n hx hb dJ14_valueOf_16 rfl (lv_at hl 0 rfl) (lv_sipush (v := 128) hx hb dJ14_valueOf_17 rfl (lv_iadd hx hb dJ14_valueOf_20 k))) ?_
        refine rk_aald C dJ14_valueOf_21 (fun v21 => ?_)
        refine rk_inr ?_
        exact rk_top (rf_aret C (Or.inl ⟨_, rfl⟩) dJ14_valueOf_22)
theorem hd_X2_opens : yX2_opens.cls ≠ "java/lang/invoke/MethodHandle" ∧ yX2_opens.cls ≠ "java/lang/invoke/VarHandle" ∧ (parseMethodDescriptor yX2_opens.desc).map (fun d => d.parameters.length) = some 1 := by decide +kernel
noncomputable def fn_X2_opens (K : zm_K) (a0 : zm_R) (a1 : Int32) : zm_M Int32 :=
  zm_bnd (zm_bnd (zm_is a0 19) fun _ => fn_X2_boxes K a0) fun v1 =>
  zm_bnd (α := Int32) (
      if 5 ≤ v1 then
        zm_ret 0
      else
        zm_ret 1
    ) fun b13 =>
  zm_bnd (fn_X1_meet K b13 1 5) fun _ =>
  zm_bnd (zm_getR a0 19 0) fun v19 =>
  zm_bnd (fn_J14_valueOf K a1) fun v23 =>
  zm_bnd (zm_bnd (zm_cls v19) fun ci => if ci = 0 then fn_J2_add K v19 v23 else if ci = 1 then fn_J4_add K v19 v23 else zm_fl) fun v26 =>
  zm_bnd (zm_bnd (zm_is a0 19) fun _ => fn_X2_boxes K a0) fun v33 =>
  zm_ret (v33 - 1)
theorem ct_X2_opens {l : Launch} {Ω : zm_W} {K : zm_K} (H : zm_H Ω K) (a0 : zm_R) (a1 : Int32) : zm_Ct l Ω yX2_opens (ws_ yX2_opens cX2_opens 2 (Option.some Jvm.ClassFile.FieldType.int)) 10 259 [va_rf a0, .int a1] zm_tvI (fn_X2_opens K a0 a1) := by
  refine zm_ct H.1 (by decide +kernel) (zl_le (zl_R (zl_I zl_nil)) (Nat.le_of_ble_eq_true rfl)) ?_
  intro p e R s m args below meth c n0 k0 C hX ls hl
  have hx := C.1
  have hb := C.2.1
  simp only [zg_I, zg_R, zg_nil] at hl
  have hl : lv_has ls 2 [(0, va_rf a0), (1, .int a1)] := hl
  refine rk_rf ?_
  unfold fn_X2_opens
  refine rk_of (fun _ _ _ _ _ k => lr_aload_n hx hb dX2_opens_0 rfl (lv_at hl 0 rfl) k) ?_
  refine rk_callI hX (cl_V (rest := []) (av := []) C (hc_X2 H) (ct_X2_boxes H a0) (lw_V q1086 q1087 q1088 q102 q1089) ⟨rfl, hd_X2_boxes⟩ ⟨(Nat.le_of_ble_eq_true rfl), (Nat.le_of_ble_eq_true rfl)⟩ rfl hl.1 rfl (zw_le zw_nil (Nat.le_of_ble_eq_true rfl)) dX2_opens_1) (fun v1 => ?_)
  refine rk_of (fun _ _ _ _ _ k => lv_iconst (v := 5) hx hb dX2_opens_4 rfl k) ?_
  refine rk_join (β := Int32) (fun (b13 : Int32) ls => lv_has ls 2 [(0, va_rf a0), (1, .int a1)]) (fun (b13 : Int32) ls => F0 m 13 ls [.int b13]) (fun b13 ls hl => ?_) (fun hJ13 => ?_)
  · refine rk_of (fun _ _ _ _ _ k => lv_iconst (v := 1) hx hb dX2_opens_13 rfl (lv_iconst (v := 5) hx hb dX2_opens_14 rfl k)) ?_
    refine rk_callV hX (cl_SN (rest := []) C (ct_X1_meet H b13 1 5) (lw_meth q1151) q101 (zn_wM H C q1149) q1150 hd_X1_meet ⟨(Nat.le_of_ble_eq_true rfl), (Nat.le_of_ble_eq_true rfl)⟩ rfl hl.1 rfl (zw_le zw_nil (Nat.le_of_ble_eq_true rfl)) dX2_opens_15) (fun _ => ?_)
    refine rk_of (fun _ _ _ _ _ k => lr_aload_n hx hb dX2_opens_18 rfl (lv_at hl 0 rfl) k) ?_
    refine rk_get zm_rdR_eq C (hc_X2 H) (k := 0) (Nat.le_of_ble_eq_true rfl) in_X2 q197 (fun _ h => h) dX2_opens_19 (fun v19 => ?_)
    refine rk_of (fun _ _ _ _ _ k => lv_iload_n hx hb dX2_opens_22 rfl (lv_at hl 1 rfl) k) ?_
    refine rk_callR hX (cl_S (rest := [va_rf v19]) C (ct_J14_valueOf H a1) (lw_S q1178 q1179 q119 q1180) hd_J14_valueOf ⟨(Nat.le_of_ble_eq_true rfl), (Nat.le_of_ble_eq_true rfl)⟩ rfl hl.1 rfl (zw_le (zw_R zw_nil) (Nat.le_of_ble_eq_true rfl)) dX2_opens_23) (fun v23 => ?_)
    refine rk_callI hX (cl_dsp (fun ci => cl_case (cl_F (n := 1) (rest := []) (av := [va_rf v23]) C (hc_J2 H) (ct_J2_add H v19 v23) (lw_F q1199 q1202 q1204 q105 q1206) (zh_Fw H C (by decide) q1201 q1200 q1205 q1203 q309) (by decide +kernel) ⟨(Nat.le_of_ble_eq_true rfl), (Nat.le_of_ble_eq_true rfl)⟩ rfl hl.1 rfl (zw_le zw_nil (Nat.le_of_ble_eq_true rfl)) dX2_opens_26) (cl_case (cl_F (n := 1) (rest := []) (av := [va_rf v23]) C (hc_J4 H) (ct_J4_add H v19 v23) (lw_F q1199 q1232 q1234 q107 q1236) (zh_Fw H C (by decide) q1201 q1200 q1235 q1233 q336) (by decide +kernel) ⟨(Nat.le_of_ble_eq_true rfl), (Nat.le_of_ble_eq_true rfl)⟩ rfl hl.1 rfl (zw_le zw_nil (Nat.le_of_ble_eq_true rfl)) dX2_opens_26) (cl_fl)))) (fun v26 => ?_)
    refine rk_of (fun _ _ _ _ _ k => lv_pop hx hb dX2_opens_31 rfl (lr_aload_n hx hb dX2_opens_32 rfl (lv_at hl 0 rfl) k)) ?_
    refine rk_callI hX (cl_V (rest := []) (av := []) C (hc_X2 H) (ct_X2_boxes H a0) (lw_V q1086 q1087 q1088 q102 q1089) ⟨rfl, hd_X2_boxes⟩ ⟨(Nat.le_of_ble_eq_true rfl), (Nat.le_of_ble_eq_true rfl)⟩ rfl hl.1 rfl (zw_le zw_nil (Nat.le_of_ble_eq_true rfl)) dX2_opens_33) (fun v33 => ?_)
    refine rk_of (fun _ _ _ _ _ k => lv_iconst (v := 1) hx hb dX2_opens_36 rfl (lv_isub hx hb dX2_opens_37 k)) ?_
    exact rk_top (rf_iret C rfl dX2_opens_38)
  · refine rk_ite (fun _ _ _ _ _ k1 k2 => lv_icmp_ge (tgt := 12) hx hb dX2_opens_5 (by decide) k1 k2) (fun c_5 => ?_) (fun c_5 => ?_)
    · refine rk_of (fun _ _ _ _ _ k => lv_iconst (v := 0) hx hb dX2_opens_12 rfl k) ?_
      exact hJ13 0 ls (lv_sub hl [0, 1] rfl)
    · refine rk_of (fun _ _ _ _ _ k => lv_iconst (v := 1) hx hb dX2_opens_8 rfl (lv_goto (tgt := 13) hx hb dX2_opens_9 (by decide) k)) ?_
      exact hJ13 1 ls (lv_sub hl [0, 1] rfl)
end
