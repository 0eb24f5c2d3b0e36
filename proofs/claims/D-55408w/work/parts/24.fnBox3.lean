/-! what the law reaches, 3 -/
section
variable {p : Program} {l : Launch} {e : Env} {R : Room} {s : State} {m : MethodId} {args : Array Value} {below : List Frame} {meth : Method} {c : Code} {Ω : zm_W} {K : zm_K} {n0 k0 : Nat}
theorem hd_X1_asNumber : yX1_asNumber.cls ≠ "java/lang/invoke/MethodHandle" ∧ yX1_asNumber.cls ≠ "java/lang/invoke/VarHandle" ∧ (parseMethodDescriptor yX1_asNumber.desc).map (fun d => d.parameters.length) = some 1 := by decide +kernel
noncomputable def fn_X1_asNumber (K : zm_K) (a0 : Int32) : zm_M Int32 :=
  if a0 = 0 then
    zm_ret 0
  else
    zm_ret 1
theorem ct_X1_asNumber {l : Launch} {Ω : zm_W} {K : zm_K} (H : zm_H Ω K) (a0 : Int32) : zm_Ct l Ω yX1_asNumber (ws_ yX1_asNumber cX1_asNumber 1 (Option.some Jvm.ClassFile.FieldType.int)) 1 64 [.int a0] zm_tvI (fn_X1_asNumber K a0) := by
  refine zm_ct H.1 (by decide +kernel) (zl_le (zl_I zl_nil) (Nat.le_of_ble_eq_true rfl)) ?_
  intro p e R s m args below meth c n0 k0 C hX ls hl
  have hx := C.1
  have hb := C.2.1
  simp only [zg_I, zg_nil] at hl
  have hl : lv_has ls 1 [(0, .int a0)] := hl
  refine rk_rf ?_
  unfold fn_X1_asNumber
  refine rk_ite (fun _ _ _ _ _ k1 k2 => lv_iload_n hx hb dX1_asNumber_0 rfl (lv_at hl 0 rfl) (lv_if_eq (tgt := 8) hx hb dX1_asNumber_1 (by decide) k1 k2)) (fun c_1 => ?_) (fun c_1 => ?_)
  · refine rk_of (fun _ _ _ _ _ k => lv_iconst (v := 0) hx hb dX1_asNumber_8 rfl k) ?_
    exact rk_top (rf_iret C rfl dX1_asNumber_9)
  · refine rk_of (fun _ _ _ _ _ k => lv_iconst (v := 1) hx hb dX1_asNumber_4 rfl (lv_goto (tgt := 9) hx hb dX1_asNumber_5 (by decide) k)) ?_
    exact rk_top (rf_iret C rfl dX1_asNumber_9)
theorem hd_X11_lambda_letting_0 : yX11_lambda_letting_0.cls ≠ "java/lang/invoke/MethodHandle" ∧ yX11_lambda_letting_0.cls ≠ "java/lang/invoke/VarHandle" ∧ (parseMethodDescriptor yX11_lambda_letting_0.desc).map (fun d => d.parameters.length) = some 4 := by decide +kernel
noncomputable def fn_X11_lambda_letting_0 (K : zm_K) (a0 : Int32) (a1 : Int32) (a2 : zm_R) (a3 : zm_R) : zm_M Int32 :=
  zm_bnd (zm_bnd (zm_is a3 19) fun _ => fn_X2_boxes K a3) fun v2 =>
  zm_bnd (α := Int32) (
      if v2 ≤ a0 then
        zm_ret 0
      else
        zm_bnd (fn_X1_isIn K a1 1 8) fun v12 =>
        if v12 = 0 then
          zm_ret 0
        else
          zm_bnd (zm_bnd (zm_is a2 22) fun _ => fn_X5_from K a2) fun v19 =>
          zm_bnd (zm_bnd (zm_is a2 22) fun _ => fn_X5_to K a2) fun v23 =>
          zm_bnd (fn_X1_isSpan K v19 v23) fun v26 =>
          if v26 = 0 then
            zm_ret 0
          else
            zm_ret 1
    ) fun b37 =>
  zm_bnd (fn_X1_asNumber K b37) fun v37 =>
  zm_ret v37
theorem ct_X11_lambda_letting_0 {l : Launch} {Ω : zm_W} {K : zm_K} (H : zm_H Ω K) (a0 : Int32) (a1 : Int32) (a2 : zm_R) (a3 : zm_R) : zm_Ct l Ω yX11_lambda_letting_0 (ws_ yX11_lambda_letting_0 cX11_lambda_letting_0 4 (Option.some Jvm.ClassFile.FieldType.int)) 3 107 [.int a0, .int a1, va_rf a2, va_rf a3] zm_tvI (fn_X11_lambda_letting_0 K a0 a1 a2 a3) := by
  refine zm_ct H.1 (by decide +kernel) (zl_le (zl_I (zl_I (zl_R (zl_R zl_nil)))) (Nat.le_of_ble_eq_true rfl)) ?_
  intro p e R s m args below meth c n0 k0 C hX ls hl
  have hx := C.1
  have hb := C.2.1
  simp only [zg_I, zg_R, zg_nil] at hl
  have hl : lv_has ls 4 [(0, .int a0), (1, .int a1), (2, va_rf a2), (3, va_rf a3)] := hl
  refine rk_rf ?_
  unfold fn_X11_lambda_letting_0
  refine rk_of (fun _ _ _ _ _ k => lv_iload_n hx hb dX11_lambda_letting_0_0 rfl (lv_at hl 0 rfl) (lr_aload_n hx hb dX11_lambda_letting_0_1 rfl (lv_at hl 3 rfl) k)) ?_
  refine rk_callI hX (cl_V (rest := [.int a0]) (av := []) C (hc_X2 H) (ct_X2_boxes H a3) (lw_V q2272 q1087 q1088 q102 q1089) ⟨rfl, hd_X2_boxes⟩ ⟨(Nat.le_of_ble_eq_true rfl), (Nat.le_of_ble_eq_true rfl)⟩ rfl hl.1 rfl (zw_le (zw_I zw_nil) (Nat.le_of_ble_eq_true rfl)) dX11_lambda_letting_0_2) (fun v2 => ?_)
  refine rk_join (β := Int32) (fun (b37 : Int32) ls => lv_has ls 4 []) (fun (b37 : Int32) ls => F0 m 37 ls [.int b37]) (fun b37 ls hl => ?_) (fun hJ37 => ?_)
  · refine rk_callI hX (cl_SN (rest := []) C (ct_X1_asNumber H b37) (lw_meth q1581) q101 (zn_wM H C q2277) q1580 hd_X1_asNumber ⟨(Nat.le_of_ble_eq_true rfl), (Nat.le_of_ble_eq_true rfl)⟩ rfl hl.1 rfl (zw_le zw_nil (Nat.le_of_ble_eq_true rfl)) dX11_lambda_letting_0_37) (fun v37 => ?_)
    exact rk_top (rf_iret C rfl dX11_lambda_letting_0_40)
  · refine rk_ite (fun _ _ _ _ _ k1 k2 => lv_icmp_ge (tgt := 36) hx hb dX11_lambda_letting_0_5 (by decide) k1 k2) (fun c_5 => ?_) (fun c_5 => ?_)
    · refine rk_of (fun _ _ _ _ _ k => lv_iconst (v := 0) hx hb dX11_lambda_letting_0_36 rfl k) ?_
      exact hJ37 0 ls (lv_sub hl [] rfl)
    · refine rk_of (fun _ _ _ _ _ k => lv_iload_n hx hb dX11_lambda_letting_0_8 rfl (lv_at hl 1 rfl) (lv_iconst (v := 1) hx hb dX11_lambda_letting_0_9 rfl (lv_bipush (v := 8) hx hb dX11_lambda_letting_0_10 rfl k))) ?_
      refine rk_callI hX (cl_SN (rest := []) C (ct_X1_isIn H a1 1 8) (lw_meth q1134) q101 (zn_wM H C q2273) q1133 hd_X1_isIn ⟨(Nat.le_of_ble_eq_true rfl), (Nat.le_of_ble_eq_true rfl)⟩ rfl hl.1 rfl (zw_le zw_nil (Nat.le_of_ble_eq_true rfl)) dX11_lambda_letting_0_12) (fun v12 => ?_)
      refine rk_ite (fun _ _ _ _ _ k1 k2 => lv_if_eq (tgt := 36) hx hb dX11_lambda_letting_0_15 (by decide) k1 k2) (fun c_15 => ?_) (fun c_15 => ?_)
      · refine rk_of (fun _ _ _ _ _ k => lv_iconst (v := 0) hx hb dX11_lambda_letting_0_36 rfl k) ?_
        exact hJ37 0 ls (lv_sub hl [] rfl)
      · refine rk_of (fun _ _ _ _ _ k => lr_aload_n hx hb dX11_lambda_letting_0_18 rfl (lv_at hl 2 rfl) k) ?_
        refine rk_callI hX (cl_V (rest := []) (av := []) C (hc_X5 H) (ct_X5_from H a2) (lw_V q2274 q1011 q1012 q135 q1013) ⟨rfl, hd_X5_from⟩ ⟨(Nat.le_of_ble_eq_true rfl), (Nat.le_of_ble_eq_true rfl)⟩ rfl hl.1 rfl (zw_le zw_nil (Nat.le_of_ble_eq_true rfl)) dX11_lambda_letting_0_19) (fun v19 => ?_)
        refine rk_of (fun _ _ _ _ _ k => lr_aload_n hx hb dX11_lambda_letting_0_22 rfl (lv_at hl 2 rfl) k) ?_
        refine rk_callI hX (cl_V (rest := [.int v19]) (av := []) C (hc_X5 H) (ct_X5_to H a2) (lw_V q2275 q830 q831 q135 q832) ⟨rfl, hd_X5_to⟩ ⟨(Nat.le_of_ble_eq_true rfl), (Nat.le_of_ble_eq_true rfl)⟩ rfl hl.1 rfl (zw_le (zw_I zw_nil) (Nat.le_of_ble_eq_true rfl)) dX11_lambda_letting_0_23) (fun v23 => ?_)
        refine rk_callI hX (cl_SN (rest := []) C (ct_X1_isSpan H v19 v23) (lw_meth q1411) q101 (zn_wM H C q2276) q1410 hd_X1_isSpan ⟨(Nat.le_of_ble_eq_true rfl), (Nat.le_of_ble_eq_true rfl)⟩ rfl hl.1 rfl (zw_le zw_nil (Nat.le_of_ble_eq_true rfl)) dX11_lambda_letting_0_26) (fun v26 => ?_)
        refine rk_ite (fun _ _ _ _ _ k1 k2 => lv_if_eq (tgt := 36) hx hb dX11_lambda_letting_0_29 (by decide) k1 k2) (fun c_29 => ?_) (fun c_29 => ?_)
        · refine rk_of (fun _ _ _ _ _ k => lv_iconst (v := 0) hx hb dX11_lambda_letting_0_36 rfl k) ?_
          exact hJ37 0 ls (lv_sub hl [] rfl)
        · refine rk_of (fun _ _ _ _ _ k => lv_iconst (v := 1) hx hb dX11_lambda_letting_0_32 rfl (lv_goto (tgt := 37) hx hb dX11_lambda_letting_0_33 (by decide) k)) ?_
          exact hJ37 1 ls (lv_sub hl [] rfl)
theorem hd_X11_lambda_letting_1 : yX11_lambda_letting_1.cls ≠ "java/lang/invoke/MethodHandle" ∧ yX11_lambda_letting_1.cls ≠ "java/lang/invoke/VarHandle" ∧ (parseMethodDescriptor yX11_lambda_letting_1.desc).map (fun d => d.parameters.length) = some 4 := by decide +kernel
noncomputable def fn_X11_lambda_letting_1 (K : zm_K) (a0 : Int32) (a1 : Int32) (a2 : zm_R) (a3 : zm_R) : zm_M Int32 :=
  zm_bnd (zm_bnd (zm_is a3 19) fun _ => fn_X2_lets K a3 a0 a1 a2) fun v4 =>
  zm_ret v4
theorem ct_X11_lambda_letting_1 {l : Launch} {Ω : zm_W} {K : zm_K} (H : zm_H Ω K) (a0 : Int32) (a1 : Int32) (a2 : zm_R) (a3 : zm_R) : zm_Ct l Ω yX11_lambda_letting_1 (ws_ yX11_lambda_letting_1 cX11_lambda_letting_1 4 (Option.some Jvm.ClassFile.FieldType.int)) 14 348 [.int a0, .int a1, va_rf a2, va_rf a3] zm_tvI (fn_X11_lambda_letting_1 K a0 a1 a2 a3) := by
  refine zm_ct H.1 (by decide +kernel) (zl_le (zl_I (zl_I (zl_R (zl_R zl_nil)))) (Nat.le_of_ble_eq_true rfl)) ?_
  intro p e R s m args below meth c n0 k0 C hX ls hl
  have hx := C.1
  have hb := C.2.1
  simp only [zg_I, zg_R, zg_nil] at hl
  have hl : lv_has ls 4 [(0, .int a0), (1, .int a1), (2, va_rf a2), (3, va_rf a3)] := hl
  refine rk_rf ?_
  unfold fn_X11_lambda_letting_1
  refine rk_of (fun _ _ _ _ _ k => lr_aload_n hx hb dX11_lambda_letting_1_0 rfl (lv_at hl 3 rfl) (lv_iload_n hx hb dX11_lambda_letting_1_1 rfl (lv_at hl 0 rfl) (lv_iload_n hx hb dX11_lambda_letting_1_2 rfl (lv_at hl 1 rfl) (lr_aload_n hx hb dX11_lambda_letting_1_3 rfl (lv_at hl 2 rfl) k)))) ?_
  refine rk_callI hX (cl_V (rest := []) (av := [.int a0, .int a1, va_rf a2]) C (hc_X2 H) (ct_X2_lets H a3 a0 a1 a2) (lw_V q2280 q1417 q1418 q102 q1419) ⟨rfl, hd_X2_lets⟩ ⟨(Nat.le_of_ble_eq_true rfl), (Nat.le_of_ble_eq_true rfl)⟩ rfl hl.1 rfl (zw_le zw_nil (Nat.le_of_ble_eq_true rfl)) dX11_lambda_letting_1_4) (fun v4 => ?_)
  exact rk_top (rf_iret C rfl dX11_lambda_letting_1_7)
theorem hd_X2_lettings : yX2_lettings.cls ≠ "java/lang/invoke/MethodHandle" ∧ yX2_lettings.cls ≠ "java/lang/invoke/VarHandle" ∧ (parseMethodDescriptor yX2_lettings.desc).map (fun d => d.parameters.length) = some 0 := by decide +kernel
noncomputable def fn_X2_lettings (K : zm_K) (a0 : zm_R) : zm_M zm_R :=
  zm_bnd (zm_getR a0 19 1) fun v1 =>
  zm_ret v1
theorem ct_X2_lettings {l : Launch} {Ω : zm_W} {K : zm_K} (H : zm_H Ω K) (a0 : zm_R) : zm_Ct l Ω yX2_lettings (ws_ yX2_lettings cX2_lettings 1 (Option.some (Jvm.ClassFile.FieldType.object "java/util/List"))) 1 64 [va_rf a0] zm_tvR (fn_X2_lettings K a0) := by
  refine zm_ct H.1 (by decide +kernel) (zl_le (zl_R zl_nil) (Nat.le_of_ble_eq_true rfl)) ?_
  intro p e R s m args below meth c n0 k0 C hX ls hl
  have hx := C.1
  have hb := C.2.1
  simp only [zg_R, zg_nil] at hl
  have hl : lv_has ls 1 [(0, va_rf a0)] := hl
  refine rk_rf ?_
  unfold fn_X2_lettings
  refine rk_of (fun _ _ _ _ _ k => lr_aload_n hx hb dX2_lettings_0 rfl (lv_at hl 0 rfl) k) ?_
  refine rk_get zm_rdR_eq C (hc_X2 H) (k := 1) (Nat.le_of_ble_eq_true rfl) in_X2 q198 (fun _ h => h) dX2_lettings_1 (fun v1 => ?_)
  exact rk_top (rf_aret C (Or.inl ⟨_, rfl⟩) dX2_lettings_4)
theorem hd_X11_lambda_cancelling_8 : yX11_lambda_cancelling_8.cls ≠ "java/lang/invoke/MethodHandle" ∧ yX11_lambda_cancelling_8.cls ≠ "java/lang/invoke/VarHandle" ∧ (parseMethodDescriptor yX11_lambda_cancelling_8.desc).map (fun d => d.parameters.length) = some 2 := by decide +kernel
noncomputable def fn_X11_lambda_cancelling_8 (K : zm_K) (a0 : Int32) (a1 : zm_R) : zm_M Int32 :=
  zm_bnd (zm_bnd (zm_is a1 19) fun _ => fn_X2_lettings K a1) fun v2 =>
  zm_bnd (zm_bnd (zm_cls v2) fun ci => if ci = 0 then fn_J2_size K v2 else if ci = 1 then fn_J4_size K v2 else zm_fl) fun v5 =>
  zm_bnd (α := Int32) (
      if v5 ≤ a0 then
        zm_ret 0
      else
        zm_ret 1
    ) fun b18 =>
  zm_bnd (fn_X1_asNumber K b18) fun v18 =>
  zm_ret v18
theorem ct_X11_lambda_cancelling_8 {l : Launch} {Ω : zm_W} {K : zm_K} (H : zm_H Ω K) (a0 : Int32) (a1 : zm_R) : zm_Ct l Ω yX11_lambda_cancelling_8 (ws_ yX11_lambda_cancelling_8 cX11_lambda_cancelling_8 2 (Option.some Jvm.ClassFile.FieldType.int)) 2 84 [.int a0, va_rf a1] zm_tvI (fn_X11_lambda_cancelling_8 K a0 a1) := by
  refine zm_ct H.1 (by decide +kernel) (zl_le (zl_I (zl_R zl_nil)) (Nat.le_of_ble_eq_true rfl)) ?_
  intro p e R s m args below meth c n0 k0 C hX ls hl
  have hx := C.1
  have hb := C.2.1
  simp only [zg_I, zg_R, zg_nil] at hl
  have hl : lv_has ls 2 [(0, .int a0), (1, va_rf a1)] := hl
  refine rk_rf ?_
  unfold fn_X11_lambda_cancelling_8
  refine rk_of (fun _ _ _ _ _ k => lv_iload_n hx hb dX11_lambda_cancelling_8_0 rfl (lv_at hl 0 rfl) (lr_aload_n hx hb dX11_lambda_cancelling_8_1 rfl (lv_at hl 1 rfl) k)) ?_
  refine rk_callR hX (cl_V (rest := [.int a0]) (av := []) C (hc_X2 H) (ct_X2_lettings H a1) (lw_V q2298 q1458 q1459 q102 q1460) ⟨rfl, hd_X2_lettings⟩ ⟨(Nat.le_of_ble_eq_true rfl), (Nat.le_of_ble_eq_true rfl)⟩ rfl hl.1 rfl (zw_le (zw_I zw_nil) (Nat.le_of_ble_eq_true rfl)) dX11_lambda_cancelling_8_2) (fun v2 => ?_)
  refine rk_callI hX (cl_dsp (fun ci => cl_case (cl_F (n := 0) (rest := [.int a0]) (av := []) C (hc_J2 H) (ct_J2_size H v2) (lw_F q2300 q1057 q752 q105 q753) (zh_Fw H C (by decide) q1056 q1055 q1059 q1058 q309) (by decide +kernel) ⟨(Nat.le_of_ble_eq_true rfl), (Nat.le_of_ble_eq_true rfl)⟩ rfl hl.1 rfl (zw_le (zw_I zw_nil) (Nat.le_of_ble_eq_true rfl)) dX11_lambda_cancelling_8_5) (cl_case (cl_F (n := 0) (rest := [.int a0]) (av := []) C (hc_J4 H) (ct_J4_size H v2) (lw_F q2300 q1060 q755 q107 q756) (zh_Fw H C (by decide) q1056 q1055 q1062 q1061 q336) (by decide +kernel) ⟨(Nat.le_of_ble_eq_true rfl), (Nat.le_of_ble_eq_true rfl)⟩ rfl hl.1 rfl (zw_le (zw_I zw_nil) (Nat.le_of_ble_eq_true rfl)) dX11_lambda_cancelling_8_5) (cl_fl)))) (fun v5 => ?_)
  refine rk_join (β := Int32) (fun (b18 : Int32) ls => lv_has ls 2 []) (fun (b18 : Int32) ls => F0 m 18 ls [.int b18]) (fun b18 ls hl => ?_) (fun hJ18 => ?_)
  · refine rk_callI hX (cl_SN (rest := []) C (ct_X1_asNumber H b18) (lw_meth q1581) q101 (zn_wM H C q2277) q1580 hd_X1_asNumber ⟨(Nat.le_of_ble_eq_true rfl), (Nat.le_of_ble_eq_true rfl)⟩ rfl hl.1 rfl (zw_le zw_nil (Nat.le_of_ble_eq_true rfl)) dX11_lambda_cancelling_8_18) (fun v18 => ?_)
    exact rk_top (rf_iret C rfl dX11_lambda_cancelling_8_21)
  · refine rk_ite (fun _ _ _ _ _ k1 k2 => lv_icmp_ge (tgt := 17) hx hb dX11_lambda_cancelling_8_10 (by decide) k1 k2) (fun c_10 => ?_) (fun c_10 => ?_)
    · refine rk_of (fun _ _ _ _ _ k => lv_iconst (v := 0) hx hb dX11_lambda_cancelling_8_17 rfl k) ?_
      exact hJ18 0 ls (lv_sub hl [] rfl)
    · refine rk_of (fun _ _ _ _ _ k => lv_iconst (v := 1) hx hb dX11_lambda_cancelling_8_13 rfl (lv_goto (tgt := 18) hx hb dX11_lambda_cancelling_8_14 (by decide) k)) ?_
      exact hJ18 1 ls (lv_sub hl [] rfl)
theorem hd_X11_lambda_cancelling_9 : yX11_lambda_cancelling_9.cls ≠ "java/lang/invoke/MethodHandle" ∧ yX11_lambda_cancelling_9.cls ≠ "java/lang/invoke/VarHandle" ∧ (parseMethodDescriptor yX11_lambda_cancelling_9.desc).map (fun d => d.parameters.length) = some 2 := by decide +kernel
noncomputable def fn_X11_lambda_cancelling_9 (K : zm_K) (a0 : Int32) (a1 : zm_R) : zm_M Int32 :=
  zm_bnd (zm_bnd (zm_is a1 19) fun _ => fn_X2_cancels K a1 a0) fun v2 =>
  zm_ret v2
theorem ct_X11_lambda_cancelling_9 {l : Launch} {Ω : zm_W} {K : zm_K} (H : zm_H Ω K) (a0 : Int32) (a1 : zm_R) : zm_Ct l Ω yX11_lambda_cancelling_9 (ws_ yX11_lambda_cancelling_9 cX11_lambda_cancelling_9 2 (Option.some Jvm.ClassFile.FieldType.int)) 13 318 [.int a0, va_rf a1] zm_tvI (fn_X11_lambda_cancelling_9 K a0 a1) := by
  refine zm_ct H.1 (by decide +kernel) (zl_le (zl_I (zl_R zl_nil)) (Nat.le_of_ble_eq_true rfl)) ?_
  intro p e R s m args below meth c n0 k0 C hX ls hl
  have hx := C.1
  have hb := C.2.1
  simp only [zg_I, zg_R, zg_nil] at hl
  have hl : lv_has ls 2 [(0, .int a0), (1, va_rf a1)] := hl
  refine rk_rf ?_
  unfold fn_X11_lambda_cancelling_9
  refine rk_of (fun _ _ _ _ _ k => lr_aload_n hx hb dX11_lambda_cancelling_9_0 rfl (lv_at hl 1 rfl) (lv_iload_n hx hb dX11_lambda_cancelling_9_1 rfl (lv_at hl 0 rfl) k)) ?_
  refine rk_callI hX (cl_V (rest := []) (av := [.int a0]) C (hc_X2 H) (ct_X2_cancels H a1 a0) (lw_V q2303 q1467 q1468 q102 q1469) ⟨rfl, hd_X2_cancels⟩ ⟨(Nat.le_of_ble_eq_true rfl), (Nat.le_of_ble_eq_true rfl)⟩ rfl hl.1 rfl (zw_le zw_nil (Nat.le_of_ble_eq_true rfl)) dX11_lambda_cancelling_9_2) (fun v2 => ?_)
  exact rk_top (rf_iret C rfl dX11_lambda_cancelling_9_5)
theorem hd_X11_lambda_moving_2 : yX11_lambda_moving_2.cls ≠ "java/lang/invoke/MethodHandle" ∧ yX11_lambda_moving_2.cls ≠ "java/lang/invoke/VarHandle" ∧ (parseMethodDescriptor yX11_lambda_moving_2.desc).map (fun d => d.parameters.length) = some 3 := by decide +kernel
noncomputable def fn_X11_lambda_moving_2 (K : zm_K) (a0 : Int32) (a1 : Int32) (a2 : zm_R) : zm_M Int32 :=
  zm_bnd (zm_bnd (zm_is a2 19) fun _ => fn_X2_lettings K a2) fun v2 =>
  zm_bnd (zm_bnd (zm_cls v2) fun ci => if ci = 0 then fn_J2_size K v2 else if ci = 1 then fn_J4_size K v2 else zm_fl) fun v5 =>
  zm_bnd (α := Int32) (
      if v5 ≤ a0 then
        zm_ret 0
      else
        if 600 ≤ a1 then
          zm_ret 0
        else
          zm_ret 1
    ) fun b25 =>
  zm_bnd (fn_X1_asNumber K b25) fun v25 =>
  zm_ret v25
theorem ct_X11_lambda_moving_2 {l : Launch} {Ω : zm_W} {K : zm_K} (H : zm_H Ω K) (a0 : Int32) (a1 : Int32) (a2 : zm_R) : zm_Ct l Ω yX11_lambda_moving_2 (ws_ yX11_lambda_moving_2 cX11_lambda_moving_2 3 (Option.some Jvm.ClassFile.FieldType.int)) 2 84 [.int a0, .int a1, va_rf a2] zm_tvI (fn_X11_lambda_moving_2 K a0 a1 a2) := by
  refine zm_ct H.1 (by decide +kernel) (zl_le (zl_I (zl_I (zl_R zl_nil))) (Nat.le_of_ble_eq_true rfl)) ?_
  intro p e R s m args below meth c n0 k0 C hX ls hl
  have hx := C.1
  have hb := C.2.1
  simp only [zg_I, zg_R, zg_nil] at hl
  have hl : lv_has ls 3 [(0, .int a0), (1, .int a1), (2, va_rf a2)] := hl
  refine rk_rf ?_
  unfold fn_X11_lambda_moving_2
  refine rk_of (fun _ _ _ _ _ k => lv_iload_n hx hb dX11_lambda_moving_2_0 rfl (lv_at hl 0 rfl) (lr_aload_n hx hb dX11_lambda_moving_2_1 rfl (lv_at hl 2 rfl) k)) ?_
  refine rk_callR hX (cl_V (rest := [.int a0]) (av := []) C (hc_X2 H) (ct_X2_lettings H a2) (lw_V q2298 q1458 q1459 q102 q1460) ⟨rfl, hd_X2_lettings⟩ ⟨(Nat.le_of_ble_eq_true rfl), (Nat.le_of_ble_eq_true rfl)⟩ rfl hl.1 rfl (zw_le (zw_I zw_nil) (Nat.le_of_ble_eq_true rfl)) dX11_lambda_moving_2_2) (fun v2 => ?_)
  refine rk_callI hX (cl_dsp (fun ci => cl_case (cl_F (n := 0) (rest := [.int a0]) (av := []) C (hc_J2 H) (ct_J2_size H v2) (lw_F q2300 q1057 q752 q105 q753) (zh_Fw H C (by decide) q1056 q1055 q1059 q1058 q309) (by decide +kernel) ⟨(Nat.le_of_ble_eq_true rfl), (Nat.le_of_ble_eq_true rfl)⟩ rfl hl.1 rfl (zw_le (zw_I zw_nil) (Nat.le_of_ble_eq_true rfl)) dX11_lambda_moving_2_5) (cl_case (cl_F (n := 0) (rest := [.int a0]) (av := []) C (hc_J4 H) (ct_J4_size H v2) (lw_F q2300 q1060 q755 q107 q756) (zh_Fw H C (by decide) q1056 q1055 q1062 q1061 q336) (by decide +kernel) ⟨(Nat.le_of_ble_eq_true rfl), (Nat.le_of_ble_eq_true rfl)⟩ rfl hl.1 rfl (zw_le (zw_I zw_nil) (Nat.le_of_ble_eq_true rfl)) dX11_lambda_moving_2_5) (cl_fl)))) (fun v5 => ?_)
  refine rk_join (β := Int32) (fun (b25 : Int32) ls => lv_has ls 3 []) (fun (b25 : Int32) ls => F0 m 25 ls [.int b25]) (fun b25 ls hl => ?_) (fun hJ25 => ?_)
  · refine rk_callI hX (cl_SN (rest := []) C (ct_X1_asNumber H b25) (lw_meth q1581) q101 (zn_wM H C q2277) q1580 hd_X1_asNumber ⟨(Nat.le_of_ble_eq_true rfl), (Nat.le_of_ble_eq_true rfl)⟩ rfl hl.1 rfl (zw_le zw_nil (Nat.le_of_ble_eq_true rfl)) dX11_lambda_moving_2_25) (fun v25 => ?_)
    exact rk_top (rf_iret C rfl dX11_lambda_moving_2_28)
  · refine rk_ite (fun _ _ _ _ _ k1 k2 => lv_icmp_ge (tgt := 24) hx hb dX11_lambda_moving_2_10 (by decide) k1 k2) (fun c_10 => ?_) (fun c_10 => ?_)
    · refine rk_of (fun _ _ _ _ _ k => lv_iconst (v := 0) hx hb dX11_lambda_moving_2_24 rfl k) ?_
      exact hJ25 0 ls (lv_sub hl [] rfl)
    · refine rk_ite (fun _ _ _ _ _ k1 k2 => lv_iload_n hx hb dX11_lambda_moving_2_13 rfl (lv_at hl 1 rfl) (lv_sipush (v := 600) hx hb dX11_lambda_moving_2_14 rfl (lv_icmp_ge (tgt := 24) hx hb dX11_lambda_moving_2_17 (by decide) k1 k2))) (fun c_17 => ?_) (fun c_17 => ?_)
      · refine rk_of (fun _ _ _ _ _ k => lv_iconst (v := 0) hx hb dX11_lambda_moving_2_24 rfl k) ?_
        exact hJ25 0 ls (lv_sub hl [] rfl)
      · refine rk_of (fun _ _ _ _ _ k => lv_iconst (v := 1) hx hb dX11_lambda_moving_2_20 rfl (lv_goto (tgt := 25) hx hb dX11_lambda_moving_2_21 (by decide) k)) ?_
        exact hJ25 1 ls (lv_sub hl [] rfl)
theorem hd_X11_lambda_moving_3 : yX11_lambda_moving_3.cls ≠ "java/lang/invoke/MethodHandle" ∧ yX11_lambda_moving_3.cls ≠ "java/lang/invoke/VarHandle" ∧ (parseMethodDescriptor yX11_lambda_moving_3.desc).map (fun d => d.parameters.length) = some 4 := by decide +kernel
noncomputable def fn_X11_lambda_moving_3 (K : zm_K) (a0 : Int32) (a1 : Int32) (a2 : Int32) (a3 : zm_R) : zm_M Int32 :=
  zm_bnd (α := Int32) (
      if a1 = 0 then
        zm_ret a2
      else
        zm_ret (-a2)
    ) fun b12 =>
  zm_bnd (zm_bnd (zm_is a3 19) fun _ => fn_X2_moves K a3 a0 b12) fun v12 =>
  zm_ret v12
theorem ct_X11_lambda_moving_3 {l : Launch} {Ω : zm_W} {K : zm_K} (H : zm_H Ω K) (a0 : Int32) (a1 : Int32) (a2 : Int32) (a3 : zm_R) : zm_Ct l Ω yX11_lambda_moving_3 (ws_ yX11_lambda_moving_3 cX11_lambda_moving_3 4 (Option.some Jvm.ClassFile.FieldType.int)) 14 349 [.int a0, .int a1, .int a2, va_rf a3] zm_tvI (fn_X11_lambda_moving_3 K a0 a1 a2 a3) := by
  refine zm_ct H.1 (by decide +kernel) (zl_le (zl_I (zl_I (zl_I (zl_R zl_nil)))) (Nat.le_of_ble_eq_true rfl)) ?_
  intro p e R s m args below meth c n0 k0 C hX ls hl
  have hx := C.1
  have hb := C.2.1
  simp only [zg_I, zg_R, zg_nil] at hl
  have hl : lv_has ls 4 [(0, .int a0), (1, .int a1), (2, .int a2), (3, va_rf a3)] := hl
  refine rk_rf ?_
  unfold fn_X11_lambda_moving_3
  refine rk_of (fun _ _ _ _ _ k => lr_aload_n hx hb dX11_lambda_moving_3_0 rfl (lv_at hl 3 rfl) (lv_iload_n hx hb dX11_lambda_moving_3_1 rfl (lv_at hl 0 rfl) (lv_iload_n hx hb dX11_lambda_moving_3_2 rfl (lv_at hl 1 rfl) k))) ?_
  refine rk_join (β := Int32) (fun (b12 : Int32) ls => lv_has ls 4 []) (fun (b12 : Int32) ls => F0 m 12 ls [.int b12, .int a0, va_rf a3]) (fun b12 ls hl => ?_) (fun hJ12 => ?_)
  · refine rk_callI hX (cl_V (rest := []) (av := [.int a0, .int b12]) C (hc_X2 H) (ct_X2_moves H a3 a0 b12) (lw_V q2312 q1492 q1493 q102 q1494) ⟨rfl, hd_X2_moves⟩ ⟨(Nat.le_of_ble_eq_true rfl), (Nat.le_of_ble_eq_true rfl)⟩ rfl hl.1 rfl (zw_le zw_nil (Nat.le_of_ble_eq_true rfl)) dX11_lambda_moving_3_12) (fun v12 => ?_)
    exact rk_top (rf_iret C rfl dX11_lambda_moving_3_15)
  · refine rk_ite (fun _ _ _ _ _ k1 k2 => lv_if_eq (tgt := 11) hx hb dX11_lambda_moving_3_3 (by decide) k1 k2) (fun c_3 => ?_) (fun c_3 => ?_)
    · refine rk_of (fun _ _ _ _ _ k => lv_iload_n hx hb dX11_lambda_moving_3_11 rfl (lv_at hl 2 rfl) k) ?_
      exact hJ12 a2 ls (lv_sub hl [] rfl)
    · refine rk_of (fun _ _ _ _ _ k => lv_iload_n hx hb dX11_lambda_moving_3_6 rfl (lv_at hl 2 rfl) (lv_ineg hx hb dX11_lambda_moving_3_7 (lv_goto (tgt := 12) hx hb dX11_lambda_moving_3_8 (by decide) k))) ?_
      exact hJ12 (-a2) ls (lv_sub hl [] rfl)
theorem hd_X11_lambda_splitting_4 : yX11_lambda_splitting_4.cls ≠ "java/lang/invoke/MethodHandle" ∧ yX11_lambda_splitting_4.cls ≠ "java/lang/invoke/VarHandle" ∧ (parseMethodDescriptor yX11_lambda_splitting_4.desc).map (fun d => d.parameters.length) = some 2 := by decide +kernel
noncomputable def fn_X11_lambda_splitting_4 (K : zm_K) (a0 : Int32) (a1 : zm_R) : zm_M Int32 :=
  zm_bnd (zm_bnd (zm_is a1 19) fun _ => fn_X2_lettings K a1) fun v2 =>
  zm_bnd (zm_bnd (zm_cls v2) fun ci => if ci = 0 then fn_J2_size K v2 else if ci = 1 then fn_J4_size K v2 else zm_fl) fun v5 =>
  zm_bnd (α := Int32) (
      if v5 ≤ a0 then
        zm_ret 0
      else
        zm_ret 1
    ) fun b18 =>
  zm_bnd (fn_X1_asNumber K b18) fun v18 =>
  zm_ret v18
theorem ct_X11_lambda_splitting_4 {l : Launch} {Ω : zm_W} {K : zm_K} (H : zm_H Ω K) (a0 : Int32) (a1 : zm_R) : zm_Ct l Ω yX11_lambda_splitting_4 (ws_ yX11_lambda_splitting_4 cX11_lambda_splitting_4 2 (Option.some Jvm.ClassFile.FieldType.int)) 2 84 [.int a0, va_rf a1] zm_tvI (fn_X11_lambda_splitting_4 K a0 a1) := by
  refine zm_ct H.1 (by decide +kernel) (zl_le (zl_I (zl_R zl_nil)) (Nat.le_of_ble_eq_true rfl)) ?_
  intro p e R s m args below meth c n0 k0 C hX ls hl
  have hx := C.1
  have hb := C.2.1
  simp only [zg_I, zg_R, zg_nil] at hl
  have hl : lv_has ls 2 [(0, .int a0), (1, va_rf a1)] := hl
  refine rk_rf ?_
  unfold fn_X11_lambda_splitting_4
  refine rk_of (fun _ _ _ _ _ k => lv_iload_n hx hb dX11_lambda_splitting_4_0 rfl (lv_at hl 0 rfl) (lr_aload_n hx hb dX11_lambda_splitting_4_1 rfl (lv_at hl 1 rfl) k)) ?_
  refine rk_callR hX (cl_V (rest := [.int a0]) (av := []) C (hc_X2 H) (ct_X2_lettings H a1) (lw_V q2298 q1458 q1459 q102 q1460) ⟨rfl, hd_X2_lettings⟩ ⟨(Nat.le_of_ble_eq_true rfl), (Nat.le_of_ble_eq_true rfl)⟩ rfl hl.1 rfl (zw_le (zw_I zw_nil) (Nat.le_of_ble_eq_true rfl)) dX11_lambda_splitting_4_2) (fun v2 => ?_)
  refine rk_callI hX (cl_dsp (fun ci => cl_case (cl_F (n := 0) (rest := [.int a0]) (av := []) C (hc_J2 H) (ct_J2_size H v2) (lw_F q2300 q1057 q752 q105 q753) (zh_Fw H C (by decide) q1056 q1055 q1059 q1058 q309) (by decide +kernel) ⟨(Nat.le_of_ble_eq_true rfl), (Nat.le_of_ble_eq_true rfl)⟩ rfl hl.1 rfl (zw_le (zw_I zw_nil) (Nat.le_of_ble_eq_true rfl)) dX11_lambda_splitting_4_5) (cl_case (cl_F (n := 0) (rest := [.int a0]) (av := []) C (hc_J4 H) (ct_J4_size H v2) (lw_F q2300 q1060 q755 q107 q756) (zh_Fw H C (by decide) q1056 q1055 q1062 q1061 q336) (by decide +kernel) ⟨(Nat.le_of_ble_eq_true rfl), (Nat.le_of_ble_eq_true rfl)⟩ rfl hl.1 rfl (zw_le (zw_I zw_nil) (Nat.le_of_ble_eq_true rfl)) dX11_lambda_splitting_4_5) (cl_fl)))) (fun v5 => ?_)
  refine rk_join (β := Int32) (fun (b18 : Int32) ls => lv_has ls 2 []) (fun (b18 : Int32) ls => F0 m 18 ls [.int b18]) (fun b18 ls hl => ?_) (fun hJ18 => ?_)
  · refine rk_callI hX (cl_SN (rest := []) C (ct_X1_asNumber H b18) (lw_meth q1581) q101 (zn_wM H C q2277) q1580 hd_X1_asNumber ⟨(Nat.le_of_ble_eq_true rfl), (Nat.le_of_ble_eq_true rfl)⟩ rfl hl.1 rfl (zw_le zw_nil (Nat.le_of_ble_eq_true rfl)) dX11_lambda_splitting_4_18) (fun v18 => ?_)
    exact rk_top (rf_iret C rfl dX11_lambda_splitting_4_21)
  · refine rk_ite (fun _ _ _ _ _ k1 k2 => lv_icmp_ge (tgt := 17) hx hb dX11_lambda_splitting_4_10 (by decide) k1 k2) (fun c_10 => ?_) (fun c_10 => ?_)
    · refine rk_of (fun _ _ _ _ _ k => lv_iconst (v := 0) hx hb dX11_lambda_splitting_4_17 rfl k) ?_
      exact hJ18 0 ls (lv_sub hl [] rfl)
    · refine rk_of (fun _ _ _ _ _ k => lv_iconst (v := 1) hx hb dX11_lambda_splitting_4_13 rfl (lv_goto (tgt := 18) hx hb dX11_lambda_splitting_4_14 (by decide) k)) ?_
      exact hJ18 1 ls (lv_sub hl [] rfl)
theorem hd_X11_lambda_splitting_5 : yX11_lambda_splitting_5.cls ≠ "java/lang/invoke/MethodHandle" ∧ yX11_lambda_splitting_5.cls ≠ "java/lang/invoke/VarHandle" ∧ (parseMethodDescriptor yX11_lambda_splitting_5.desc).map (fun d => d.parameters.length) = some 3 := by decide +kernel
noncomputable def fn_X11_lambda_splitting_5 (K : zm_K) (a0 : Int32) (a1 : Int32) (a2 : zm_R) : zm_M Int32 :=
  zm_bnd (zm_bnd (zm_is a2 19) fun _ => fn_X2_splits K a2 a0 a1) fun v3 =>
  zm_ret v3
theorem ct_X11_lambda_splitting_5 {l : Launch} {Ω : zm_W} {K : zm_K} (H : zm_H Ω K) (a0 : Int32) (a1 : Int32) (a2 : zm_R) : zm_Ct l Ω yX11_lambda_splitting_5 (ws_ yX11_lambda_splitting_5 cX11_lambda_splitting_5 3 (Option.some Jvm.ClassFile.FieldType.int)) 13 320 [.int a0, .int a1, va_rf a2] zm_tvI (fn_X11_lambda_splitting_5 K a0 a1 a2) := by
  refine zm_ct H.1 (by decide +kernel) (zl_le (zl_I (zl_I (zl_R zl_nil))) (Nat.le_of_ble_eq_true rfl)) ?_
  intro p e R s m args below meth c n0 k0 C hX ls hl
  have hx := C.1
  have hb := C.2.1
  simp only [zg_I, zg_R, zg_nil] at hl
  have hl : lv_has ls 3 [(0, .int a0), (1, .int a1), (2, va_rf a2)] := hl
  refine rk_rf ?_
  unfold fn_X11_lambda_splitting_5
  refine rk_of (fun _ _ _ _ _ k => lr_aload_n hx hb dX11_lambda_splitting_5_0 rfl (lv_at hl 2 rfl) (lv_iload_n hx hb dX11_lambda_splitting_5_1 rfl (lv_at hl 0 rfl) (lv_iload_n hx hb dX11_lambda_splitting_5_2 rfl (lv_at hl 1 rfl) k))) ?_
  refine rk_callI hX (cl_V (rest := []) (av := [.int a0, .int a1]) C (hc_X2 H) (ct_X2_splits H a2 a0 a1) (lw_V q2321 q1531 q1532 q102 q1533) ⟨rfl, hd_X2_splits⟩ ⟨(Nat.le_of_ble_eq_true rfl), (Nat.le_of_ble_eq_true rfl)⟩ rfl hl.1 rfl (zw_le zw_nil (Nat.le_of_ble_eq_true rfl)) dX11_lambda_splitting_5_3) (fun v3 => ?_)
  exact rk_top (rf_iret C rfl dX11_lambda_splitting_5_6)
theorem hd_X11_lambda_wishing_6 : yX11_lambda_wishing_6.cls ≠ "java/lang/invoke/MethodHandle" ∧ yX11_lambda_wishing_6.cls ≠ "java/lang/invoke/VarHandle" ∧ (parseMethodDescriptor yX11_lambda_wishing_6.desc).map (fun d => d.parameters.length) = some 3 := by decide +kernel
noncomputable def fn_X11_lambda_wishing_6 (K : zm_K) (a0 : Int32) (a1 : zm_R) (a2 : zm_R) : zm_M Int32 :=
  zm_bnd (fn_X1_isIn K a0 1 8) fun v4 =>
  zm_bnd (α := Int32) (
      if v4 = 0 then
        zm_ret 0
      else
        zm_bnd (zm_bnd (zm_is a1 22) fun _ => fn_X5_from K a1) fun v11 =>
        zm_bnd (zm_bnd (zm_is a1 22) fun _ => fn_X5_to K a1) fun v15 =>
        zm_bnd (fn_X1_isSpan K v11 v15) fun v18 =>
        if v18 = 0 then
          zm_ret 0
        else
          zm_ret 1
    ) fun b29 =>
  zm_bnd (fn_X1_asNumber K b29) fun v29 =>
  zm_ret v29
theorem ct_X11_lambda_wishing_6 {l : Launch} {Ω : zm_W} {K : zm_K} (H : zm_H Ω K) (a0 : Int32) (a1 : zm_R) (a2 : zm_R) : zm_Ct l Ω yX11_lambda_wishing_6 (ws_ yX11_lambda_wishing_6 cX11_lambda_wishing_6 3 (Option.some Jvm.ClassFile.FieldType.int)) 3 107 [.int a0, va_rf a1, va_rf a2] zm_tvI (fn_X11_lambda_wishing_6 K a0 a1 a2) := by
  refine zm_ct H.1 (by decide +kernel) (zl_le (zl_I (zl_R (zl_R zl_nil))) (Nat.le_of_ble_eq_true rfl)) ?_
  intro p e R s m args below meth c n0 k0 C hX ls hl
  have hx := C.1
  have hb := C.2.1
  simp only [zg_I, zg_R, zg_nil] at hl
  have hl : lv_has ls 3 [(0, .int a0), (1, va_rf a1), (2, va_rf a2)] := hl
  refine rk_rf ?_
  unfold fn_X11_lambda_wishing_6
  refine rk_of (fun _ _ _ _ _ k => lv_iload_n hx hb dX11_lambda_wishing_6_0 rfl (lv_at hl 0 rfl) (lv_iconst (v := 1) hx hb dX11_lambda_wishing_6_1 rfl (lv_bipush (v := 8) hx hb dX11_lambda_wishing_6_2 rfl k))) ?_
  refine rk_callI hX (cl_SN (rest := []) C (ct_X1_isIn H a0 1 8) (lw_meth q1134) q101 (zn_wM H C q2273) q1133 hd_X1_isIn ⟨(Nat.le_of_ble_eq_true rfl), (Nat.le_of_ble_eq_true rfl)⟩ rfl hl.1 rfl (zw_le zw_nil (Nat.le_of_ble_eq_true rfl)) dX11_lambda_wishing_6_4) (fun v4 => ?_)
  refine rk_join (β := Int32) (fun (b29 : Int32) ls => lv_has ls 3 []) (fun (b29 : Int32) ls => F0 m 29 ls [.int b29]) (fun b29 ls hl => ?_) (fun hJ29 => ?_)
  · refine rk_callI hX (cl_SN (rest := []) C (ct_X1_asNumber H b29) (lw_meth q1581) q101 (zn_wM H C q2277) q1580 hd_X1_asNumber ⟨(Nat.le_of_ble_eq_true rfl), (Nat.le_of_ble_eq_true rfl)⟩ rfl hl.1 rfl (zw_le zw_nil (Nat.le_of_ble_eq_true rfl)) dX11_lambda_wishing_6_29) (fun v29 => ?_)
    exact rk_top (rf_iret C rfl dX11_lambda_wishing_6_32)
  · refine rk_ite (fun _ _ _ _ _ k1 k2 => lv_if_eq (tgt := 28) hx hb dX11_lambda_wishing_6_7 (by decide) k1 k2) (fun c_7 => ?_) (fun c_7 => ?_)
    · refine rk_of (fun _ _ _ _ _ k => lv_iconst (v := 0) hx hb dX11_lambda_wishing_6_28 rfl k) ?_
      exact hJ29 0 ls (lv_sub hl [] rfl)
    · refine rk_of (fun _ _ _ _ _ k => lr_aload_n hx hb dX11_lambda_wishing_6_10 rfl (lv_at hl 1 rfl) k) ?_
      refine rk_callI hX (cl_V (rest := []) (av := []) C (hc_X5 H) (ct_X5_from H a1) (lw_V q2274 q1011 q1012 q135 q1013) ⟨rfl, hd_X5_from⟩ ⟨(Nat.le_of_ble_eq_true rfl), (Nat.le_of_ble_eq_true rfl)⟩ rfl hl.1 rfl (zw_le zw_nil (Nat.le_of_ble_eq_true rfl)) dX11_lambda_wishing_6_11) (fun v11 => ?_)
      refine rk_of (fun _ _ _ _ _ k => lr_aload_n hx hb dX11_lambda_wishing_6_14 rfl (lv_at hl 1 rfl) k) ?_
      refine rk_callI hX (cl_V (rest := [.int v11]) (av := []) C (hc_X5 H) (ct_X5_to H a1) (lw_V q2275 q830 q831 q135 q832) ⟨rfl, hd_X5_to⟩ ⟨(Nat.le_of_ble_eq_true rfl), (Nat.le_of_ble_eq_true rfl)⟩ rfl hl.1 rfl (zw_le (zw_I zw_nil) (Nat.le_of_ble_eq_true rfl)) dX11_lambda_wishing_6_15) (fun v15 => ?_)
      refine rk_callI hX (cl_SN (rest := []) C (ct_X1_isSpan H v11 v15) (lw_meth q1411) q101 (zn_wM H C q2276) q1410 hd_X1_isSpan ⟨(Nat.le_of_ble_eq_true rfl), (Nat.le_of_ble_eq_true rfl)⟩ rfl hl.1 rfl (zw_le zw_nil (Nat.le_of_ble_eq_true rfl)) dX11_lambda_wishing_6_18) (fun v18 => ?_)
      refine rk_ite (fun _ _ _ _ _ k1 k2 => lv_if_eq (tgt := 28) hx hb dX11_lambda_wishing_6_21 (by decide) k1 k2) (fun c_21 => ?_) (fun c_21 => ?_)
      · refine rk_of (fun _ _ _ _ _ k => lv_iconst (v := 0) hx hb dX11_lambda_wishing_6_28 rfl k) ?_
        exact hJ29 0 ls (lv_sub hl [] rfl)
      · refine rk_of (fun _ _ _ _ _ k => lv_iconst (v := 1) hx hb dX11_lambda_wishing_6_24 rfl (lv_goto (tgt := 29) hx hb dX11_lambda_wishing_6_25 (by decide) k)) ?_
        exact hJ29 1 ls (lv_sub hl [] rfl)
theorem hd_X11_lambda_wishing_7 : yX11_lambda_wishing_7.cls ≠ "java/lang/invoke/MethodHandle" ∧ yX11_lambda_wishing_7.cls ≠ "java/lang/invoke/VarHandle" ∧ (parseMethodDescriptor yX11_lambda_wishing_7.desc).map (fun d => d.parameters.length) = some 3 := by decide +kernel
noncomputable def fn_X11_lambda_wishing_7 (K : zm_K) (a0 : Int32) (a1 : zm_R) (a2 : zm_R) : zm_M Int32 :=
  zm_bnd (zm_bnd (zm_is a2 19) fun _ => fn_X2_wishes K a2 a0 a1) fun v3 =>
  zm_ret v3
theorem ct_X11_lambda_wishing_7 {l : Launch} {Ω : zm_W} {K : zm_K} (H : zm_H Ω K) (a0 : Int32) (a1 : zm_R) (a2 : zm_R) : zm_Ct l Ω yX11_lambda_wishing_7 (ws_ yX11_lambda_wishing_7 cX11_lambda_wishing_7 3 (Option.some Jvm.ClassFile.FieldType.int)) 11 281 [.int a0, va_rf a1, va_rf a2] zm_tvI (fn_X11_lambda_wishing_7 K a0 a1 a2) := by
  refine zm_ct H.1 (by decide +kernel) (zl_le (zl_I (zl_R (zl_R zl_nil))) (Nat.le_of_ble_eq_true rfl)) ?_
  intro p e R s m args below meth c n0 k0 C hX ls hl
  have hx := C.1
  have hb := C.2.1
  simp only [zg_I, zg_R, zg_nil] at hl
  have hl : lv_has ls 3 [(0, .int a0), (1, va_rf a1), (2, va_rf a2)] := hl
  refine rk_rf ?_
  unfold fn_X11_lambda_wishing_7
  refine rk_of (fun _ _ _ _ _ k => lr_aload_n hx hb dX11_lambda_wishing_7_0 rfl (lv_at hl 2 rfl) (lv_iload_n hx hb dX11_lambda_wishing_7_1 rfl (lv_at hl 0 rfl) (lr_aload_n hx hb dX11_lambda_wishing_7_2 rfl (lv_at hl 1 rfl) k))) ?_
  refine rk_callI hX (cl_V (rest := []) (av := [.int a0, va_rf a1]) C (hc_X2 H) (ct_X2_wishes H a2 a0 a1) (lw_V q2330 q1607 q1608 q102 q1609) ⟨rfl, hd_X2_wishes⟩ ⟨(Nat.le_of_ble_eq_true rfl), (Nat.le_of_ble_eq_true rfl)⟩ rfl hl.1 rfl (zw_le zw_nil (Nat.le_of_ble_eq_true rfl)) dX11_lambda_wishing_7_3) (fun v3 => ?_)
  exact rk_top (rf_iret C rfl dX11_lambda_wishing_7_6)
theorem hd_X2_wishes_2 : yX2_wishes_2.cls ≠ "java/lang/invoke/MethodHandle" ∧ yX2_wishes_2.cls ≠ "java/lang/invoke/VarHandle" ∧ (parseMethodDescriptor yX2_wishes_2.desc).map (fun d => d.parameters.length) = some 0 := by decide +kernel
noncomputable def fn_X2_wishes_2 (K : zm_K) (a0 : zm_R) : zm_M zm_R :=
  zm_bnd (zm_getR a0 19 2) fun v1 =>
  zm_ret v1
theorem ct_X2_wishes_2 {l : Launch} {Ω : zm_W} {K : zm_K} (H : zm_H Ω K) (a0 : zm_R) : zm_Ct l Ω yX2_wishes_2 (ws_ yX2_wishes_2 cX2_wishes_2 1 (Option.some (Jvm.ClassFile.FieldType.object "java/util/List"))) 1 64 [va_rf a0] zm_tvR (fn_X2_wishes_2 K a0) := by
  refine zm_ct H.1 (by decide +kernel) (zl_le (zl_R zl_nil) (Nat.le_of_ble_eq_true rfl)) ?_
  intro p e R s m args below meth c n0 k0 C hX ls hl
  have hx := C.1
  have hb := C.2.1
  simp only [zg_R, zg_nil] at hl
  have hl : lv_has ls 1 [(0, va_rf a0)] := hl
  refine rk_rf ?_
  unfold fn_X2_wishes_2
  refine rk_of (fun _ _ _ _ _ k => lr_aload_n hx hb dX2_wishes_2_0 rfl (lv_at hl 0 rfl) k) ?_
  refine rk_get zm_rdR_eq C (hc_X2 H) (k := 2) (Nat.le_of_ble_eq_true rfl) in_X2 q199 (fun _ h => h) dX2_wishes_2_1 (fun v1 => ?_)
  exact rk_top (rf_aret C (Or.inl ⟨_, rfl⟩) dX2_wishes_2_4)
theorem hd_X11_lambda_dropping_10 : yX11_lambda_dropping_10.cls ≠ "java/lang/invoke/MethodHandle" ∧ yX11_lambda_dropping_10.cls ≠ "java/lang/invoke/VarHandle" ∧ (parseMethodDescriptor yX11_lambda_dropping_10.desc).map (fun d => d.parameters.length) = some 2 := by decide +kernel
noncomputable def fn_X11_lambda_dropping_10 (K : zm_K) (a0 : Int32) (a1 : zm_R) : zm_M Int32 :=
  zm_bnd (zm_bnd (zm_is a1 19) fun _ => fn_X2_wishes_2 K a1) fun v2 =>
  zm_bnd (zm_bnd (zm_cls v2) fun ci => if ci = 0 then fn_J2_size K v2 else if ci = 1 then fn_J4_size K v2 else zm_fl) fun v5 =>
  zm_bnd (α := Int32) (
      if v5 ≤ a0 then
        zm_ret 0
      else
        zm_ret 1
    ) fun b18 =>
  zm_bnd (fn_X1_asNumber K b18) fun v18 =>
  zm_ret v18
theorem ct_X11_lambda_dropping_10 {l : Launch} {Ω : zm_W} {K : zm_K} (H : zm_H Ω K) (a0 : Int32) (a1 : zm_R) : zm_Ct l Ω yX11_lambda_dropping_10 (ws_ yX11_lambda_dropping_10 cX11_lambda_dropping_10 2 (Option.some Jvm.ClassFile.FieldType.int)) 2 84 [.int a0, va_rf a1] zm_tvI (fn_X11_lambda_dropping_10 K a0 a1) := by
  refine zm_ct H.1 (by decide +kernel) (zl_le (zl_I (zl_R zl_nil)) (Nat.le_of_ble_eq_true rfl)) ?_
  intro p e R s m args below meth c n0 k0 C hX ls hl
  have hx := C.1
  have hb := C.2.1
  simp only [zg_I, zg_R, zg_nil] at hl
  have hl : lv_has ls 2 [(0, .int a0), (1, va_rf a1)] := hl
  refine rk_rf ?_
  unfold fn_X11_lambda_dropping_10
  refine rk_of (fun _ _ _ _ _ k => lv_iload_n hx hb dX11_lambda_dropping_10_0 rfl (lv_at hl 0 rfl) (lr_aload_n hx hb dX11_lambda_dropping_10_1 rfl (lv_at hl 1 rfl) k)) ?_
  refine rk_callR hX (cl_V (rest := [.int a0]) (av := []) C (hc_X2 H) (ct_X2_wishes_2 H a1) (lw_V q2337 q1629 q1630 q102 q1631) ⟨rfl, hd_X2_wishes_2⟩ ⟨(Nat.le_of_ble_eq_true rfl), (Nat.le_of_ble_eq_true rfl)⟩ rfl hl.1 rfl (zw_le (zw_I zw_nil) (Nat.le_of_ble_eq_true rfl)) dX11_lambda_dropping_10_2) (fun v2 => ?_)
  refine rk_callI hX (cl_dsp (fun ci => cl_case (cl_F (n := 0) (rest := [.int a0]) (av := []) C (hc_J2 H) (ct_J2_size H v2) (lw_F q2300 q1057 q752 q105 q753) (zh_Fw H C (by decide) q1056 q1055 q1059 q1058 q309) (by decide +kernel) ⟨(Nat.le_of_ble_eq_true rfl), (Nat.le_of_ble_eq_true rfl)⟩ rfl hl.1 rfl (zw_le (zw_I zw_nil) (Nat.le_of_ble_eq_true rfl)) dX11_lambda_dropping_10_5) (cl_case (cl_F (n := 0) (rest := [.int a0]) (av := []) C (hc_J4 H) (ct_J4_size H v2) (lw_F q2300 q1060 q755 q107 q756) (zh_Fw H C (by decide) q1056 q1055 q1062 q1061 q336) (by decide +kernel) ⟨(Nat.le_of_ble_eq_true rfl), (Nat.le_of_ble_eq_true rfl)⟩ rfl hl.1 rfl (zw_le (zw_I zw_nil) (Nat.le_of_ble_eq_true rfl)) dX11_lambda_dropping_10_5) (cl_fl)))) (fun v5 => ?_)
  refine rk_join (β := Int32) (fun (b18 : Int32) ls => lv_has ls 2 []) (fun (b18 : Int32) ls => F0 m 18 ls [.int b18]) (fun b18 ls hl => ?_) (fun hJ18 => ?_)
  · refine rk_callI hX (cl_SN (rest := []) C (ct_X1_asNumber H b18) (lw_meth q1581) q101 (zn_wM H C q2277) q1580 hd_X1_asNumber ⟨(Nat.le_of_ble_eq_true rfl), (Nat.le_of_ble_eq_true rfl)⟩ rfl hl.1 rfl (zw_le zw_nil (Nat.le_of_ble_eq_true rfl)) dX11_lambda_dropping_10_18) (fun v18 => ?_)
    exact rk_top (rf_iret C rfl dX11_lambda_dropping_10_21)
  · refine rk_ite (fun _ _ _ _ _ k1 k2 => lv_icmp_ge (tgt := 17) hx hb dX11_lambda_dropping_10_10 (by decide) k1 k2) (fun c_10 => ?_) (fun c_10 => ?_)
    · refine rk_of (fun _ _ _ _ _ k => lv_iconst (v := 0) hx hb dX11_lambda_dropping_10_17 rfl k) ?_
      exact hJ18 0 ls (lv_sub hl [] rfl)
    · refine rk_of (fun _ _ _ _ _ k => lv_iconst (v := 1) hx hb dX11_lambda_dropping_10_13 rfl (lv_goto (tgt := 18) hx hb dX11_lambda_dropping_10_14 (by decide) k)) ?_
      exact hJ18 1 ls (lv_sub hl [] rfl)
theorem hd_X11_lambda_dropping_11 : yX11_lambda_dropping_11.cls ≠ "java/lang/invoke/MethodHandle" ∧ yX11_lambda_dropping_11.cls ≠ "java/lang/invoke/VarHandle" ∧ (parseMethodDescriptor yX11_lambda_dropping_11.desc).map (fun d => d.parameters.length) = some 2 := by decide +kernel
noncomputable def fn_X11_lambda_dropping_11 (K : zm_K) (a0 : Int32) (a1 : zm_R) : zm_M Int32 :=
  zm_bnd (zm_bnd (zm_is a1 19) fun _ => fn_X2_drops K a1 a0) fun v2 =>
  zm_ret v2
theorem ct_X11_lambda_dropping_11 {l : Launch} {Ω : zm_W} {K : zm_K} (H : zm_H Ω K) (a0 : Int32) (a1 : zm_R) : zm_Ct l Ω yX11_lambda_dropping_11 (ws_ yX11_lambda_dropping_11 cX11_lambda_dropping_11 2 (Option.some Jvm.ClassFile.FieldType.int)) 11 275 [.int a0, va_rf a1] zm_tvI (fn_X11_lambda_dropping_11 K a0 a1) := by
  refine zm_ct H.1 (by decide +kernel) (zl_le (zl_I (zl_R zl_nil)) (Nat.le_of_ble_eq_true rfl)) ?_
  intro p e R s m args below meth c n0 k0 C hX ls hl
  have hx := C.1
  have hb := C.2.1
  simp only [zg_I, zg_R, zg_nil] at hl
  have hl : lv_has ls 2 [(0, .int a0), (1, va_rf a1)] := hl
  refine rk_rf ?_
  unfold fn_X11_lambda_dropping_11
  refine rk_of (fun _ _ _ _ _ k => lr_aload_n hx hb dX11_lambda_dropping_11_0 rfl (lv_at hl 1 rfl) (lv_iload_n hx hb dX11_lambda_dropping_11_1 rfl (lv_at hl 0 rfl) k)) ?_
  refine rk_callI hX (cl_V (rest := []) (av := [.int a0]) C (hc_X2 H) (ct_X2_drops H a1 a0) (lw_V q2340 q1635 q1636 q102 q1637) ⟨rfl, hd_X2_drops⟩ ⟨(Nat.le_of_ble_eq_true rfl), (Nat.le_of_ble_eq_true rfl)⟩ rfl hl.1 rfl (zw_le zw_nil (Nat.le_of_ble_eq_true rfl)) dX11_lambda_dropping_11_2) (fun v2 => ?_)
  exact rk_top (rf_iret C rfl dX11_lambda_dropping_11_5)
theorem hd_X11_lambda_command_12 : yX11_lambda_command_12.cls ≠ "java/lang/invoke/MethodHandle" ∧ yX11_lambda_command_12.cls ≠ "java/lang/invoke/VarHandle" ∧ (parseMethodDescriptor yX11_lambda_command_12.desc).map (fun d => d.parameters.length) = some 1 := by decide +kernel
noncomputable def fn_X11_lambda_command_12 (K : zm_K) (a0 : zm_R) : zm_M Int32 :=
  zm_ret 1
theorem ct_X11_lambda_command_12 {l : Launch} {Ω : zm_W} {K : zm_K} (H : zm_H Ω K) (a0 : zm_R) : zm_Ct l Ω yX11_lambda_command_12 (ws_ yX11_lambda_command_12 cX11_lambda_command_12 1 (Option.some Jvm.ClassFile.FieldType.int)) 1 64 [va_rf a0] zm_tvI (fn_X11_lambda_command_12 K a0) := by
  refine zm_ct H.1 (by decide +kernel) (zl_le (zl_R zl_nil) (Nat.le_of_ble_eq_true rfl)) ?_
  intro p e R s m args below meth c n0 k0 C hX ls hl
  have hx := C.1
  have hb := C.2.1
  simp only [zg_R, zg_nil] at hl
  have hl : lv_has ls 1 [(0, va_rf a0)] := hl
  refine rk_rf ?_
  unfold fn_X11_lambda_command_12
  refine rk_of (fun _ _ _ _ _ k => lv_iconst (v := 1) hx hb dX11_lambda_command_12_0 rfl k) ?_
  exact rk_top (rf_iret C rfl dX11_lambda_command_12_1)
theorem hd_X11_lambda_command_13 : yX11_lambda_command_13.cls ≠ "java/lang/invoke/MethodHandle" ∧ yX11_lambda_command_13.cls ≠ "java/lang/invoke/VarHandle" ∧ (parseMethodDescriptor yX11_lambda_command_13.desc).map (fun d => d.parameters.length) = some 1 := by decide +kernel
noncomputable def fn_X11_lambda_command_13 (K : zm_K) (a0 : zm_R) : zm_M Int32 :=
  zm_bnd (zm_bnd (zm_is a0 19) fun _ => fn_X2_allots K a0) fun v1 =>
  zm_ret v1
theorem ct_X11_lambda_command_13 {l : Launch} {Ω : zm_W} {K : zm_K} (H : zm_H Ω K) (a0 : zm_R) : zm_Ct l Ω yX11_lambda_command_13 (ws_ yX11_lambda_command_13 cX11_lambda_command_13 1 (Option.some Jvm.ClassFile.FieldType.int)) 19 465 [va_rf a0] zm_tvI (fn_X11_lambda_command_13 K a0) := by
  refine zm_ct H.1 (by decide +kernel) (zl_le (zl_R zl_nil) (Nat.le_of_ble_eq_true rfl)) ?_
  intro p e R s m args below meth c n0 k0 C hX ls hl
  have hx := C.1
  have hb := C.2.1
  simp only [zg_R, zg_nil] at hl
  have hl : lv_has ls 1 [(0, va_rf a0)] := hl
  refine rk_rf ?_
  unfold fn_X11_lambda_command_13
  refine rk_of (fun _ _ _ _ _ k => lr_aload_n hx hb dX11_lambda_command_13_0 rfl (lv_at hl 0 rfl) k) ?_
  refine rk_callI hX (cl_V (rest := []) (av := []) C (hc_X2 H) (ct_X2_allots H a0) (lw_V q2345 q1732 q1733 q102 q1734) ⟨rfl, hd_X2_allots⟩ ⟨(Nat.le_of_ble_eq_true rfl), (Nat.le_of_ble_eq_true rfl)⟩ rfl hl.1 rfl (zw_le zw_nil (Nat.le_of_ble_eq_true rfl)) dX11_lambda_command_13_1) (fun v1 => ?_)
  exact rk_top (rf_iret C rfl dX11_lambda_command_13_4)
noncomputable def fn_deed (K : zm_K) (r : zm_R) (a : zm_R) : zm_M Int32 :=
  zm_bnd (zm_cls r) fun ci =>
  if ci = 100 then zm_bnd (zm_cap r 100 [true]) fun vs => zm_bnd (fn_X1_lambda_box_0 K (zv_I (zv_at vs 0)) a) zm_ret else
  if ci = 101 then zm_bnd (zm_cap r 101 [true, true, false]) fun vs => zm_bnd (fn_X1_lambda_let_1 K (zv_I (zv_at vs 0)) (zv_I (zv_at vs 1)) (zv_R (zv_at vs 2)) a) zm_ret else
  if ci = 102 then zm_bnd (zm_cap r 102 [true]) fun vs => zm_bnd (fn_X1_lambda_cancel_2 K (zv_I (zv_at vs 0)) a) zm_ret else
  if ci = 103 then zm_bnd (zm_cap r 103 [true, true]) fun vs => zm_bnd (fn_X1_lambda_move_3 K (zv_I (zv_at vs 0)) (zv_I (zv_at vs 1)) a) zm_ret else
  if ci = 104 then zm_bnd (zm_cap r 104 [true, true]) fun vs => zm_bnd (fn_X1_lambda_split_4 K (zv_I (zv_at vs 0)) (zv_I (zv_at vs 1)) a) zm_ret else
  if ci = 105 then zm_bnd (zm_cap r 105 [true, true]) fun vs => zm_bnd (fn_X1_lambda_join_5 K (zv_I (zv_at vs 0)) (zv_I (zv_at vs 1)) a) zm_ret else
  if ci = 106 then zm_bnd (zm_cap r 106 [true, false]) fun vs => zm_bnd (fn_X1_lambda_wish_6 K (zv_I (zv_at vs 0)) (zv_R (zv_at vs 1)) a) zm_ret else
  if ci = 107 then zm_bnd (zm_cap r 107 [true]) fun vs => zm_bnd (fn_X1_lambda_drop_7 K (zv_I (zv_at vs 0)) a) zm_ret else
  if ci = 108 then zm_bnd (zm_cap r 108 []) fun vs => zm_bnd (fn_X1_lambda_allot_8 K a) zm_ret else
  if ci = 112 then zm_bnd (zm_cap r 112 [true, true, false]) fun vs => zm_bnd (fn_X11_lambda_letting_0 K (zv_I (zv_at vs 0)) (zv_I (zv_at vs 1)) (zv_R (zv_at vs 2)) a) zm_ret else
  if ci = 113 then zm_bnd (zm_cap r 113 [true, true, false]) fun vs => zm_bnd (fn_X11_lambda_letting_1 K (zv_I (zv_at vs 0)) (zv_I (zv_at vs 1)) (zv_R (zv_at vs 2)) a) zm_ret else
  if ci = 114 then zm_bnd (zm_cap r 114 [true]) fun vs => zm_bnd (fn_X11_lambda_cancelling_8 K (zv_I (zv_at vs 0)) a) zm_ret else
  if ci = 115 then zm_bnd (zm_cap r 115 [true]) fun vs => zm_bnd (fn_X11_lambda_cancelling_9 K (zv_I (zv_at vs 0)) a) zm_ret else
  if ci = 116 then zm_bnd (zm_cap r 116 [true, true]) fun vs => zm_bnd (fn_X11_lambda_moving_2 K (zv_I (zv_at vs 0)) (zv_I (zv_at vs 1)) a) zm_ret else
  if ci = 117 then zm_bnd (zm_cap r 117 [true, true, true]) fun vs => zm_bnd (fn_X11_lambda_moving_3 K (zv_I (zv_at vs 0)) (zv_I (zv_at vs 1)) (zv_I (zv_at vs 2)) a) zm_ret else
  if ci = 118 then zm_bnd (zm_cap r 118 [true]) fun vs => zm_bnd (fn_X11_lambda_splitting_4 K (zv_I (zv_at vs 0)) a) zm_ret else
  if ci = 119 then zm_bnd (zm_cap r 119 [true, true]) fun vs => zm_bnd (fn_X11_lambda_splitting_5 K (zv_I (zv_at vs 0)) (zv_I (zv_at vs 1)) a) zm_ret else
  if ci = 120 then zm_bnd (zm_cap r 120 [true, false]) fun vs => zm_bnd (fn_X11_lambda_wishing_6 K (zv_I (zv_at vs 0)) (zv_R (zv_at vs 1)) a) zm_ret else
  if ci = 121 then zm_bnd (zm_cap r 121 [true, false]) fun vs => zm_bnd (fn_X11_lambda_wishing_7 K (zv_I (zv_at vs 0)) (zv_R (zv_at vs 1)) a) zm_ret else
  if ci = 122 then zm_bnd (zm_cap r 122 [true]) fun vs => zm_bnd (fn_X11_lambda_dropping_10 K (zv_I (zv_at vs 0)) a) zm_ret else
  if ci = 123 then zm_bnd (zm_cap r 123 [true]) fun vs => zm_bnd (fn_X11_lambda_dropping_11 K (zv_I (zv_at vs 0)) a) zm_ret else
  if ci = 124 then zm_bnd (zm_cap r 124 []) fun vs => zm_bnd (fn_X11_lambda_command_12 K a) zm_ret else
  if ci = 125 then zm_bnd (zm_cap r 125 []) fun vs => zm_bnd (fn_X11_lambda_command_13 K a) zm_ret else
  zm_fl
theorem cl_deed {index count : Nat} {cc : ByteArray} {own nm : String} {nL FF LL : Nat} {ret : Option FieldType} {pc : Nat} {ls : Array Slot} {st0 rest : List Value} {r : zm_R} {a : zm_R} (H : zm_H Ω K) (C : zm_C p l R s m args meth c Ω lw_all cc own nm nL FF LL ret) (hlink : Cond.methodLink own index ⟨"BoxSpans$Deed", "does", "(LBoxSpans$Theatre;)I"⟩ ∈ lw_all) (hdecl : (Cond.declares ⟨"BoxSpans$Deed", "does", "(LBoxSpans$Theatre;)I"⟩).before args s = true) (hface : (Cond.interfaceMethod "BoxSpans$Deed" "BoxSpans$Deed" "does" "(LBoxSpans$Theatre;)I").before args s = true) (hF : 21 ≤ FF ∧ 506 ≤ LL) (hl : ls.size = nL) (hst : st0 = va_rf a :: va_rf r :: rest) (hW : (rest.map fun v => v.category).sum ≤ 8) (hdg : decode cc pc = .ok (.invokeinterface index count, 5)) :
    zm_CL 5 p l e R s m args below meth c Ω n0 k0 zm_tvI (fn_deed K r a) (F0 m pc ls st0) rest := by
  refine cl_dsp fun ci => ?_
  refine cl_case ?_ ?_
  · exact cl_lam H C (i := 0) (F := 11) (L := 280) rfl zk_ok0 (zh_O H) (x := ⟨"BoxSpans$Deed", "does", "(LBoxSpans$Theatre;)I"⟩) (y := yX1_lambda_box_0) (by decide +kernel) (by decide +kernel) (ty := .int) rfl rfl (by decide +kernel) hlink hdecl hface (lw_meth q1144) q101 q1143 (by decide) (by decide +kernel) (by decide +kernel) (by decide +kernel) zb_r1_d (Or.inl ⟨_, rfl, zb_r1_l⟩) zb_r1_c zb_r1_r zl_fI (zl_comp (fun vs hv => by
      obtain ⟨x0, w0, rfl, h0⟩ := zv_consI hv
      cases zv_nil h0
      exact ct_X1_lambda_box_0 H x0 a)) ⟨Nat.le_trans (Nat.le_of_ble_eq_true rfl) hF.1, Nat.le_trans (Nat.le_of_ble_eq_true rfl) hF.2⟩ hl hst hW hdg
  refine cl_case ?_ ?_
  · exact cl_lam H C (i := 1) (F := 14) (L := 348) rfl zk_ok1 (zh_O H) (x := ⟨"BoxSpans$Deed", "does", "(LBoxSpans$Theatre;)I"⟩) (y := yX1_lambda_let_1) (by decide +kernel) (by decide +kernel) (ty := .int) rfl rfl (by decide +kernel) hlink hdecl hface (lw_meth q1415) q101 q1414 (by decide) (by decide +kernel) (by decide +kernel) (by decide +kernel) zb_r3_d (Or.inl ⟨_, rfl, zb_r3_l⟩) zb_r3_c zb_r3_r zl_fI (zl_comp (fun vs hv => by
      obtain ⟨x0, w0, rfl, h0⟩ := zv_consI hv
      obtain ⟨x1, w1, rfl, h1⟩ := zv_consI h0
      obtain ⟨x2, w2, rfl, h2⟩ := zv_consR h1
      cases zv_nil h2
      cases x2 <;> exact ct_X1_lambda_let_1 H x0 x1 _ a)) ⟨Nat.le_trans (Nat.le_of_ble_eq_true rfl) hF.1, Nat.le_trans (Nat.le_of_ble_eq_true rfl) hF.2⟩ hl hst hW hdg
  refine cl_case ?_ ?_
  · exact cl_lam H C (i := 2) (F := 13) (L := 318) rfl zk_ok2 (zh_O H) (x := ⟨"BoxSpans$Deed", "does", "(LBoxSpans$Theatre;)I"⟩) (y := yX1_lambda_cancel_2) (by decide +kernel) (by decide +kernel) (ty := .int) rfl rfl (by decide +kernel) hlink hdecl hface (lw_meth q1465) q101 q1464 (by decide) (by decide +kernel) (by decide +kernel) (by decide +kernel) zb_r1_d (Or.inl ⟨_, rfl, zb_r1_l⟩) zb_r1_c zb_r1_r zl_fI (zl_comp (fun vs hv => by
      obtain ⟨x0, w0, rfl, h0⟩ := zv_consI hv
      cases zv_nil h0
      exact ct_X1_lambda_cancel_2 H x0 a)) ⟨Nat.le_trans (Nat.le_of_ble_eq_true rfl) hF.1, Nat.le_trans (Nat.le_of_ble_eq_true rfl) hF.2⟩ hl hst hW hdg
  refine cl_case ?_ ?_
  · exact cl_lam H C (i := 3) (F := 14) (L := 349) rfl zk_ok3 (zh_O H) (x := ⟨"BoxSpans$Deed", "does", "(LBoxSpans$Theatre;)I"⟩) (y := yX1_lambda_move_3) (by decide +kernel) (by decide +kernel) (ty := .int) rfl rfl (by decide +kernel) hlink hdecl hface (lw_meth q1490) q101 q1489 (by decide) (by decide +kernel) (by decide +kernel) (by decide +kernel) zb_r2_d (Or.inl ⟨_, rfl, zb_r2_l⟩) zb_r2_c zb_r2_r zl_fI (zl_comp (fun vs hv => by
      obtain ⟨x0, w0, rfl, h0⟩ := zv_consI hv
      obtain ⟨x1, w1, rfl, h1⟩ := zv_consI h0
      cases zv_nil h1
      exact ct_X1_lambda_move_3 H x0 x1 a)) ⟨Nat.le_trans (Nat.le_of_ble_eq_true rfl) hF.1, Nat.le_trans (Nat.le_of_ble_eq_true rfl) hF.2⟩ hl hst hW hdg
  refine cl_case ?_ ?_
  · exact cl_lam H C (i := 4) (F := 13) (L := 320) rfl zk_ok4 (zh_O H) (x := ⟨"BoxSpans$Deed", "does", "(LBoxSpans$Theatre;)I"⟩) (y := yX1_lambda_split_4) (by decide +kernel) (by decide +kernel) (ty := .int) rfl rfl (by decide +kernel) hlink hdecl hface (lw_meth q1529) q101 q1528 (by decide) (by decide +kernel) (by decide +kernel) (by decide +kernel) zb_r2_d (Or.inl ⟨_, rfl, zb_r2_l⟩) zb_r2_c zb_r2_r zl_fI (zl_comp (fun vs hv => by
      obtain ⟨x0, w0, rfl, h0⟩ := zv_consI hv
      obtain ⟨x1, w1, rfl, h1⟩ := zv_consI h0
      cases zv_nil h1
      exact ct_X1_lambda_split_4 H x0 x1 a)) ⟨Nat.le_trans (Nat.le_of_ble_eq_true rfl) hF.1, Nat.le_trans (Nat.le_of_ble_eq_true rfl) hF.2⟩ hl hst hW hdg
  refine cl_case ?_ ?_
  · exact cl_lam H C (i := 5) (F := 13) (L := 320) rfl zk_ok5 (zh_O H) (x := ⟨"BoxSpans$Deed", "does", "(LBoxSpans$Theatre;)I"⟩) (y := yX1_lambda_join_5) (by decide +kernel) (by decide +kernel) (ty := .int) rfl rfl (by decide +kernel) hlink hdecl hface (lw_meth q1549) q101 q1548 (by decide) (by decide +kernel) (by decide +kernel) (by decide +kernel) zb_r2_d (Or.inl ⟨_, rfl, zb_r2_l⟩) zb_r2_c zb_r2_r zl_fI (zl_comp (fun vs hv => by
      obtain ⟨x0, w0, rfl, h0⟩ := zv_consI hv
      obtain ⟨x1, w1, rfl, h1⟩ := zv_consI h0
      cases zv_nil h1
      exact ct_X1_lambda_join_5 H x0 x1 a)) ⟨Nat.le_trans (Nat.le_of_ble_eq_true rfl) hF.1, Nat.le_trans (Nat.le_of_ble_eq_true rfl) hF.2⟩ hl hst hW hdg
  refine cl_case ?_ ?_
  · exact cl_lam H C (i := 6) (F := 11) (L := 281) rfl zk_ok6 (zh_O H) (x := ⟨"BoxSpans$Deed", "does", "(LBoxSpans$Theatre;)I"⟩) (y := yX1_lambda_wish_6) (by decide +kernel) (by decide +kernel) (ty := .int) rfl rfl (by decide +kernel) hlink hdecl hface (lw_meth q1605) q101 q1604 (by decide) (by decide +kernel) (by decide +kernel) (by decide +kernel) zb_s2_d (Or.inl ⟨_, rfl, zb_s2_l⟩) zb_s2_c zb_s2_r zl_fI (zl_comp (fun vs hv => by
      obtain ⟨x0, w0, rfl, h0⟩ := zv_consI hv
      obtain ⟨x1, w1, rfl, h1⟩ := zv_consR h0
      cases zv_nil h1
      cases x1 <;> exact ct_X1_lambda_wish_6 H x0 _ a)) ⟨Nat.le_trans (Nat.le_of_ble_eq_true rfl) hF.1, Nat.le_trans (Nat.le_of_ble_eq_true rfl) hF.2⟩ hl hst hW hdg
  refine cl_case ?_ ?_
  · exact cl_lam H C (i := 7) (F := 11) (L := 275) rfl zk_ok7 (zh_O H) (x := ⟨"BoxSpans$Deed", "does", "(LBoxSpans$Theatre;)I"⟩) (y := yX1_lambda_drop_7) (by decide +kernel) (by decide +kernel) (ty := .int) rfl rfl (by decide +kernel) hlink hdecl hface (lw_meth q1633) q101 q1632 (by decide) (by decide +kernel) (by decide +kernel) (by decide +kernel) zb_r1_d (Or.inl ⟨_, rfl, zb_r1_l⟩) zb_r1_c zb_r1_r zl_fI (zl_comp (fun vs hv => by
      obtain ⟨x0, w0, rfl, h0⟩ := zv_consI hv
      cases zv_nil h0
      exact ct_X1_lambda_drop_7 H x0 a)) ⟨Nat.le_trans (Nat.le_of_ble_eq_true rfl) hF.1, Nat.le_trans (Nat.le_of_ble_eq_true rfl) hF.2⟩ hl hst hW hdg
  refine cl_case ?_ ?_
  · exact cl_lam H C (i := 8) (F := 19) (L := 465) rfl zk_ok8 (zh_O H) (x := ⟨"BoxSpans$Deed", "does", "(LBoxSpans$Theatre;)I"⟩) (y := yX1_lambda_allot_8) (by decide +kernel) (by decide +kernel) (ty := .int) rfl rfl (by decide +kernel) hlink hdecl hface (lw_meth q1730) q101 q1729 (by decide) (by decide +kernel) (by decide +kernel) (by decide +kernel) zb_r0_d (Or.inl ⟨_, rfl, zb_r0_l⟩) zb_r0_c zb_r0_r zl_fI (zl_comp (fun vs hv => by
      cases zv_nil hv
      exact ct_X1_lambda_allot_8 H a)) ⟨Nat.le_trans (Nat.le_of_ble_eq_true rfl) hF.1, Nat.le_trans (Nat.le_of_ble_eq_true rfl) hF.2⟩ hl hst hW hdg
  refine cl_case ?_ ?_
  · exact cl_lam H C (i := 12) (F := 3) (L := 107) rfl zk_ok12 (zh_O H) (x := ⟨"BoxSpans$Deed", "does", "(LBoxSpans$Theatre;)I"⟩) (y := yX11_lambda_letting_0) (by decide +kernel) (by decide +kernel) (ty := .int) rfl rfl (by decide +kernel) hlink hdecl hface (lw_meth q2271) q145 q2270 (by decide) (by decide +kernel) (by decide +kernel) (by decide +kernel) zb_r3_d (Or.inl ⟨_, rfl, zb_r3_l⟩) zb_r3_c zb_r3_r zl_fI (zl_comp (fun vs hv => by
      obtain ⟨x0, w0, rfl, h0⟩ := zv_consI hv
      obtain ⟨x1, w1, rfl, h1⟩ := zv_consI h0
      obtain ⟨x2, w2, rfl, h2⟩ := zv_consR h1
      cases zv_nil h2
      cases x2 <;> exact ct_X11_lambda_letting_0 H x0 x1 _ a)) ⟨Nat.le_trans (Nat.le_of_ble_eq_true rfl) hF.1, Nat.le_trans (Nat.le_of_ble_eq_true rfl) hF.2⟩ hl hst hW hdg
  refine cl_case ?_ ?_
  · exact cl_lam H C (i := 13) (F := 14) (L := 348) rfl zk_ok13 (zh_O H) (x := ⟨"BoxSpans$Deed", "does", "(LBoxSpans$Theatre;)I"⟩) (y := yX11_lambda_letting_1) (by decide +kernel) (by decide +kernel) (ty := .int) rfl rfl (by decide +kernel) hlink hdecl hface (lw_meth q2279) q145 q2278 (by decide) (by decide +kernel) (by decide +kernel) (by decide +kernel) zb_r3_d (Or.inl ⟨_, rfl, zb_r3_l⟩) zb_r3_c zb_r3_r zl_fI (zl_comp (fun vs hv => by
      obtain ⟨x0, w0, rfl, h0⟩ := zv_consI hv
      obtain ⟨x1, w1, rfl, h1⟩ := zv_consI h0
      obtain ⟨x2, w2, rfl, h2⟩ := zv_consR h1
      cases zv_nil h2
      cases x2 <;> exact ct_X11_lambda_letting_1 H x0 x1 _ a)) ⟨Nat.le_trans (Nat.le_of_ble_eq_true rfl) hF.1, Nat.le_trans (Nat.le_of_ble_eq_true rfl) hF.2⟩ hl hst hW hdg
  refine cl_case ?_ ?_
  · exact cl_lam H C (i := 14) (F := 2) (L := 84) rfl zk_ok14 (zh_O H) (x := ⟨"BoxSpans$Deed", "does", "(LBoxSpans$Theatre;)I"⟩) (y := yX11_lambda_cancelling_8) (by decide +kernel) (by decide +kernel) (ty := .int) rfl rfl (by decide +kernel) hlink hdecl hface (lw_meth q2297) q145 q2296 (by decide) (by decide +kernel) (by decide +kernel) (by decide +kernel) zb_r1_d (Or.inl ⟨_, rfl, zb_r1_l⟩) zb_r1_c zb_r1_r zl_fI (zl_comp (fun vs hv => by
      obtain ⟨x0, w0, rfl, h0⟩ := zv_consI hv
      cases zv_nil h0
      exact ct_X11_lambda_cancelling_8 H x0 a)) ⟨Nat.le_trans (Nat.le_of_ble_eq_true rfl) hF.1, Nat.le_trans (Nat.le_of_ble_eq_true rfl) hF.2⟩ hl hst hW hdg
  refine cl_case ?_ ?_
  · exact cl_lam H C (i := 15) (F := 13) (L := 318) rfl zk_ok15 (zh_O H) (x := ⟨"BoxSpans$Deed", "does", "(LBoxSpans$Theatre;)I"⟩) (y := yX11_lambda_cancelling_9) (by decide +kernel) (by decide +kernel) (ty := .int) rfl rfl (by decide +kernel) hlink hdecl hface (lw_meth q2302) q145 q2301 (by decide) (by decide +kernel) (by decide +kernel) (by decide +kernel) zb_r1_d (Or.inl ⟨_, rfl, zb_r1_l⟩) zb_r1_c zb_r1_r zl_fI (zl_comp (fun vs hv => by
      obtain ⟨x0, w0, rfl, h0⟩ := zv_consI hv
      cases zv_nil h0
      exact ct_X11_lambda_cancelling_9 H x0 a)) ⟨Nat.le_trans (Nat.le_of_ble_eq_true rfl) hF.1, Nat.le_trans (Nat.le_of_ble_eq_true rfl) hF.2⟩ hl hst hW hdg
  refine cl_case ?_ ?_
  · exact cl_lam H C (i := 16) (F := 2) (L := 84) rfl zk_ok16 (zh_O H) (x := ⟨"BoxSpans$Deed", "does", "(LBoxSpans$Theatre;)I"⟩) (y := yX11_lambda_moving_2) (by decide +kernel) (by decide +kernel) (ty := .int) rfl rfl (by decide +kernel) hlink hdecl hface (lw_meth q2309) q145 q2308 (by decide) (by decide +kernel) (by decide +kernel) (by decide +kernel) zb_r2_d (Or.inl ⟨_, rfl, zb_r2_l⟩) zb_r2_c zb_r2_r zl_fI (zl_comp (fun vs hv => by
      obtain ⟨x0, w0, rfl, h0⟩ := zv_consI hv
      obtain ⟨x1, w1, rfl, h1⟩ := zv_consI h0
      cases zv_nil h1
      exact ct_X11_lambda_moving_2 H x0 x1 a)) ⟨Nat.le_trans (Nat.le_of_ble_eq_true rfl) hF.1, Nat.le_trans (Nat.le_of_ble_eq_true rfl) hF.2⟩ hl hst hW hdg
  refine cl_case ?_ ?_
  · exact cl_lam H C (i := 17) (F := 14) (L := 349) rfl zk_ok17 (zh_O H) (x := ⟨"BoxSpans$Deed", "does", "(LBoxSpans$Theatre;)I"⟩) (y := yX11_lambda_moving_3) (by decide +kernel) (by decide +kernel) (ty := .int) rfl rfl (by decide +kernel) hlink hdecl hface (lw_meth q2311) q145 q2310 (by decide) (by decide +kernel) (by decide +kernel) (by decide +kernel) zb_r3_d (Or.inl ⟨_, rfl, zb_r3_l⟩) zb_r3_c zb_r3_r zl_fI (zl_comp (fun vs hv => by
      obtain ⟨x0, w0, rfl, h0⟩ := zv_consI hv
      obtain ⟨x1, w1, rfl, h1⟩ := zv_consI h0
      obtain ⟨x2, w2, rfl, h2⟩ := zv_consI h1
      cases zv_nil h2
      exact ct_X11_lambda_moving_3 H x0 x1 x2 a)) ⟨Nat.le_trans (Nat.le_of_ble_eq_true rfl) hF.1, Nat.le_trans (Nat.le_of_ble_eq_true rfl) hF.2⟩ hl hst hW hdg
  refine cl_case ?_ ?_
  · exact cl_lam H C (i := 18) (F := 2) (L := 84) rfl zk_ok18 (zh_O H) (x := ⟨"BoxSpans$Deed", "does", "(LBoxSpans$Theatre;)I"⟩) (y := yX11_lambda_splitting_4) (by decide +kernel) (by decide +kernel) (ty := .int) rfl rfl (by decide +kernel) hlink hdecl hface (lw_meth q2318) q145 q2317 (by decide) (by decide +kernel) (by decide +kernel) (by decide +kernel) zb_r1_d (Or.inl ⟨_, rfl, zb_r1_l⟩) zb_r1_c zb_r1_r zl_fI (zl_comp (fun vs hv => by
      obtain ⟨x0, w0, rfl, h0⟩ := zv_consI hv
      cases zv_nil h0
      exact ct_X11_lambda_splitting_4 H x0 a)) ⟨Nat.le_trans (Nat.le_of_ble_eq_true rfl) hF.1, Nat.le_trans (Nat.le_of_ble_eq_true rfl) hF.2⟩ hl hst hW hdg
  refine cl_case ?_ ?_
  · exact cl_lam H C (i := 19) (F := 13) (L := 320) rfl zk_ok19 (zh_O H) (x := ⟨"BoxSpans$Deed", "does", "(LBoxSpans$Theatre;)I"⟩) (y := yX11_lambda_splitting_5) (by decide +kernel) (by decide +kernel) (ty := .int) rfl rfl (by decide +kernel) hlink hdecl hface (lw_meth q2320) q145 q2319 (by decide) (by decide +kernel) (by decide +kernel) (by decide +kernel) zb_r2_d (Or.inl ⟨_, rfl, zb_r2_l⟩) zb_r2_c zb_r2_r zl_fI (zl_comp (fun vs hv => by
      obtain ⟨x0, w0, rfl, h0⟩ := zv_consI hv
      obtain ⟨x1, w1, rfl, h1⟩ := zv_consI h0
      cases zv_nil h1
      exact ct_X11_lambda_splitting_5 H x0 x1 a)) ⟨Nat.le_trans (Nat.le_of_ble_eq_true rfl) hF.1, Nat.le_trans (Nat.le_of_ble_eq_true rfl) hF.2⟩ hl hst hW hdg
  refine cl_case ?_ ?_
  · exact cl_lam H C (i := 20) (F := 3) (L := 107) rfl zk_ok20 (zh_O H) (x := ⟨"BoxSpans$Deed", "does", "(LBoxSpans$Theatre;)I"⟩) (y := yX11_lambda_wishing_6) (by decide +kernel) (by decide +kernel) (ty := .int) rfl rfl (by decide +kernel) hlink hdecl hface (lw_meth q2327) q145 q2326 (by decide) (by decide +kernel) (by decide +kernel) (by decide +kernel) zb_s2_d (Or.inl ⟨_, rfl, zb_s2_l⟩) zb_s2_c zb_s2_r zl_fI (zl_comp (fun vs hv => by
      obtain ⟨x0, w0, rfl, h0⟩ := zv_consI hv
      obtain ⟨x1, w1, rfl, h1⟩ := zv_consR h0
      cases zv_nil h1
      cases x1 <;> exact ct_X11_lambda_wishing_6 H x0 _ a)) ⟨Nat.le_trans (Nat.le_of_ble_eq_true rfl) hF.1, Nat.le_trans (Nat.le_of_ble_eq_true rfl) hF.2⟩ hl hst hW hdg
  refine cl_case ?_ ?_
  · exact cl_lam H C (i := 21) (F := 11) (L := 281) rfl zk_ok21 (zh_O H) (x := ⟨"BoxSpans$Deed", "does", "(LBoxSpans$Theatre;)I"⟩) (y := yX11_lambda_wishing_7) (by decide +kernel) (by decide +kernel) (ty := .int) rfl rfl (by decide +kernel) hlink hdecl hface (lw_meth q2329) q145 q2328 (by decide) (by decide +kernel) (by decide +kernel) (by decide +kernel) zb_s2_d (Or.inl ⟨_, rfl, zb_s2_l⟩) zb_s2_c zb_s2_r zl_fI (zl_comp (fun vs hv => by
      obtain ⟨x0, w0, rfl, h0⟩ := zv_consI hv
      obtain ⟨x1, w1, rfl, h1⟩ := zv_consR h0
      cases zv_nil h1
      cases x1 <;> exact ct_X11_lambda_wishing_7 H x0 _ a)) ⟨Nat.le_trans (Nat.le_of_ble_eq_true rfl) hF.1, Nat.le_trans (Nat.le_of_ble_eq_true rfl) hF.2⟩ hl hst hW hdg
  refine cl_case ?_ ?_
  · exact cl_lam H C (i := 22) (F := 2) (L := 84) rfl zk_ok22 (zh_O H) (x := ⟨"BoxSpans$Deed", "does", "(LBoxSpans$Theatre;)I"⟩) (y := yX11_lambda_dropping_10) (by decide +kernel) (by decide +kernel) (ty := .int) rfl rfl (by decide +kernel) hlink hdecl hface (lw_meth q2336) q145 q2335 (by decide) (by decide +kernel) (by decide +kernel) (by decide +kernel) zb_r1_d (Or.inl ⟨_, rfl, zb_r1_l⟩) zb_r1_c zb_r1_r zl_fI (zl_comp (fun vs hv => by
      obtain ⟨x0, w0, rfl, h0⟩ := zv_consI hv
      cases zv_nil h0
      exact ct_X11_lambda_dropping_10 H x0 a)) ⟨Nat.le_trans (Nat.le_of_ble_eq_true rfl) hF.1, Nat.le_trans (Nat.le_of_ble_eq_true rfl) hF.2⟩ hl hst hW hdg
  refine cl_case ?_ ?_
  · exact cl_lam H C (i := 23) (F := 11) (L := 275) rfl zk_ok23 (zh_O H) (x := ⟨"BoxSpans$Deed", "does", "(LBoxSpans$Theatre;)I"⟩) (y := yX11_lambda_dropping_11) (by decide +kernel) (by decide +kernel) (ty := .int) rfl rfl (by decide +kernel) hlink hdecl hface (lw_meth q2339) q145 q2338 (by decide) (by decide +kernel) (by decide +kernel) (by decide +kernel) zb_r1_d (Or.inl ⟨_, rfl, zb_r1_l⟩) zb_r1_c zb_r1_r zl_fI (zl_comp (fun vs hv => by
      obtain ⟨x0, w0, rfl, h0⟩ := zv_consI hv
      cases zv_nil h0
      exact ct_X11_lambda_dropping_11 H x0 a)) ⟨Nat.le_trans (Nat.le_of_ble_eq_true rfl) hF.1, Nat.le_trans (Nat.le_of_ble_eq_true rfl) hF.2⟩ hl hst hW hdg
  refine cl_case ?_ ?_
  · exact cl_lam H C (i := 24) (F := 1) (L := 64) rfl zk_ok24 (zh_O H) (x := ⟨"BoxSpans$Deed", "does", "(LBoxSpans$Theatre;)I"⟩) (y := yX11_lambda_command_12) (by decide +kernel) (by decide +kernel) (ty := .int) rfl rfl (by decide +kernel) hlink hdecl hface (lw_meth q2342) q145 q2341 (by decide) (by decide +kernel) (by decide +kernel) (by decide +kernel) zb_r0_d (Or.inl ⟨_, rfl, zb_r0_l⟩) zb_r0_c zb_r0_r zl_fI (zl_comp (fun vs hv => by
      cases zv_nil hv
      exact ct_X11_lambda_command_12 H a)) ⟨Nat.le_trans (Nat.le_of_ble_eq_true rfl) hF.1, Nat.le_trans (Nat.le_of_ble_eq_true rfl) hF.2⟩ hl hst hW hdg
  refine cl_case ?_ ?_
  · exact cl_lam H C (i := 25) (F := 19) (L := 465) rfl zk_ok25 (zh_O H) (x := ⟨"BoxSpans$Deed", "does", "(LBoxSpans$Theatre;)I"⟩) (y := yX11_lambda_command_13) (by decide +kernel) (by decide +kernel) (ty := .int) rfl rfl (by decide +kernel) hlink hdecl hface (lw_meth q2344) q145 q2343 (by decide) (by decide +kernel) (by decide +kernel) (by decide +kernel) zb_r0_d (Or.inl ⟨_, rfl, zb_r0_l⟩) zb_r0_c zb_r0_r zl_fI (zl_comp (fun vs hv => by
      cases zv_nil hv
      exact ct_X11_lambda_command_13 H a)) ⟨Nat.le_trans (Nat.le_of_ble_eq_true rfl) hF.1, Nat.le_trans (Nat.le_of_ble_eq_true rfl) hF.2⟩ hl hst hW hdg
  exact cl_fl
theorem hd_J4_unlinkFirst : yJ4_unlinkFirst.cls ≠ "java/lang/invoke/MethodHandle" ∧ yJ4_unlinkFirst.cls ≠ "java/lang/invoke/VarHandle" ∧ (parseMethodDescriptor yJ4_unlinkFirst.desc).map (fun d => d.parameters.length) = some 1 := by decide +kernel
noncomputable def fn_J4_unlinkFirst (K : zm_K) (a0 : zm_R) (a1 : zm_R) : zm_M zm_R :=
  zm_bnd (zm_getR a1 7 0) fun v1 =>
  zm_bnd (zm_getR a1 7 1) fun v6 =>
  zm_bnd (zm_putF K a1 7 0 (va_rf none)) fun _ =>
  zm_bnd (zm_putF K a1 7 1 (va_rf none)) fun _ =>
  zm_bnd (zm_putF K a0 1 2 (va_rf v6)) fun _ =>
  zm_bnd (α := Unit) (
      if v6 = none then
        zm_bnd (zm_putF K a0 1 3 (va_rf none)) fun _ =>
        zm_ret ()
      else
        zm_bnd (zm_putF K v6 7 2 (va_rf none)) fun _ =>
        zm_ret ()
    ) fun (_ : Unit) =>
  zm_bnd (zm_getI a0 1 1) fun v44 =>
  zm_bnd (zm_putF K a0 1 1 (.int (v44 - 1))) fun _ =>
  zm_bnd (zm_getI a0 1 0) fun v54 =>
  zm_bnd (zm_putF K a0 1 0 (.int (v54 + 1))) fun _ =>
  zm_ret v1
theorem ct_J4_unlinkFirst {l : Launch} {Ω : zm_W} {K : zm_K} (H : zm_H Ω K) (a0 : zm_R) (a1 : zm_R) : zm_Ct l Ω yJ4_unlinkFirst (ws_ yJ4_unlinkFirst cJ4_unlinkFirst 4 (Option.some (Jvm.ClassFile.FieldType.object "java/lang/Object"))) 1 64 [va_rf a0, va_rf a1] zm_tvR (fn_J4_unlinkFirst K a0 a1) := by
  refine zm_ct H.1 (by decide +kernel) (zl_le (zl_R (zl_R zl_nil)) (Nat.le_of_ble_eq_true rfl)) ?_
  intro p e R s m args below meth c n0 k0 C hX ls hl
  have hx := C.1
  have hb := C.2.1
  simp only [zg_R, zg_nil] at hl
  have hl : lv_has ls 4 [(0, va_rf a0), (1, va_rf a1)] := hl
  refine rk_rf ?_
  unfold fn_J4_unlinkFirst
  refine rk_of (fun _ _ _ _ _ k => lr_aload_n hx hb dJ4_unlinkFirst_0 rfl (lv_at hl 1 rfl) k) ?_
  refine rk_get zm_rdR_eq C (hc_J18 H) (k := 0) (Nat.le_of_ble_eq_true rfl) in_J18 q1249 (fun _ h => h) dJ4_unlinkFirst_1 (fun v1 => ?_)
  refine rk_ofs (fun _ _ _ _ _ k => lr_astore_n hx hb dJ4_unlinkFirst_4 rfl hl (Nat.le_of_ble_eq_true rfl) [0, 1] rfl ⟨trivial, ⟨(by first | exact va_rf_cat _ | rfl), trivial⟩⟩ k) (fun ls hl => ?_)
  refine rk_of (fun _ _ _ _ _ k => lr_aload_n hx hb dJ4_unlinkFirst_5 rfl (lv_at hl 2 rfl) k) ?_
  refine rk_get zm_rdR_eq C (hc_J18 H) (k := 1) (Nat.le_of_ble_eq_true rfl) in_J18 q1252 (fun _ h => h) dJ4_unlinkFirst_6 (fun v6 => ?_)
  refine rk_ofs (fun _ _ _ _ _ k => lr_astore_n hx hb dJ4_unlinkFirst_9 rfl hl (Nat.le_of_ble_eq_true rfl) [0, 1, 2] rfl ⟨(by first | exact va_rf_cat _ | rfl), ⟨trivial, ⟨trivial, trivial⟩⟩⟩ k) (fun ls hl => ?_)
  refine rk_of (fun _ _ _ _ _ k => lr_aload_n hx hb dJ4_unlinkFirst_10 rfl (lv_at hl 3 rfl) (lr_null hx hb dJ4_unlinkFirst_11 k)) ?_
  refine rk_put C H.2.2.1 (hc_J18 H) (k := 0) (Nat.le_of_ble_eq_true rfl) in_J18 (ty0 := tyJ18) tyJ18_ok nmJ18 q1249 (fun _ h => h) (Or.inl rfl) (zn_R rfl _) (zp_R rfl _) dJ4_unlinkFirst_12 ?_
  refine rk_of (fun _ _ _ _ _ k => lr_aload_n hx hb dJ4_unlinkFirst_15 rfl (lv_at hl 3 rfl) (lr_null hx hb dJ4_unlinkFirst_16 k)) ?_
  refine rk_put C H.2.2.1 (hc_J18 H) (k := 1) (Nat.le_of_ble_eq_true rfl) in_J18 (ty0 := tyJ18) tyJ18_ok nmJ18 q1252 (fun _ h => h) (Or.inl rfl) (zn_R rfl _) (zp_R rfl _) dJ4_unlinkFirst_17 ?_
  refine rk_of (fun _ _ _ _ _ k => lr_aload_n hx hb dJ4_unlinkFirst_20 rfl (lv_at hl 2 rfl) (lr_aload_n hx hb dJ4_unlinkFirst_21 rfl (lv_at hl 0 rfl) k)) ?_
  refine rk_put C H.2.2.1 (hc_J4 H) (k := 2) (Nat.le_of_ble_eq_true rfl) in_J4 (ty0 := tyJ4) tyJ4_ok nmJ4 q227 (fun _ h => h) (Or.inl rfl) (zn_R rfl _) (zp_R rfl _) dJ4_unlinkFirst_22 ?_
  refine rk_of (fun _ _ _ _ _ k => lr_aload_n hx hb dJ4_unlinkFirst_25 rfl (lv_at hl 0 rfl) k) ?_
  refine rk_join (β := Unit) (fun (b42 : Unit) ls => lv_has ls 4 [(0, va_rf a0), (2, va_rf v1)]) (fun (b42 : Unit) ls => F0 m 42 ls []) (fun b42 ls hl => ?_) (fun hJ42 => ?_)
  · refine rk_of (fun _ _ _ _ _ k => lr_aload_n hx hb dJ4_unlinkFirst_42 rfl (lv_at hl 0 rfl) (lv_dup hx hb dJ4_unlinkFirst_43 (va_rf_cat _) k)) ?_
    refine rk_get zm_rdI_eq C (hc_J4 H) (k := 1) (Nat.le_of_ble_eq_true rfl) in_J4 q225 (fun _ h => h) dJ4_unlinkFirst_44 (fun v44 => ?_)
    refine rk_of (fun _ _ _ _ _ k => lv_iconst (v := 1) hx hb dJ4_unlinkFirst_47 rfl (lv_isub hx hb dJ4_unlinkFirst_48 k)) ?_
    refine rk_put C H.2.2.1 (hc_J4 H) (k := 1) (Nat.le_of_ble_eq_true rfl) in_J4 (ty0 := tyJ4) tyJ4_ok nmJ4 q225 (fun _ h => h) (Or.inl rfl) rfl rfl dJ4_unlinkFirst_49 ?_
    refine rk_of (fun _ _ _ _ _ k => lr_aload_n hx hb dJ4_unlinkFirst_52 rfl (lv_at hl 0 rfl) (lv_dup hx hb dJ4_unlinkFirst_53 (va_rf_cat _) k)) ?_
    refine rk_get zm_rdI_eq C (hc_J4 H) (k := 0) (Nat.le_of_ble_eq_true rfl) in_J4 q188 (u_same (C.2.2.2.1 _ q184)) dJ4_unlinkFirst_54 (fun v54 => ?_)
    refine rk_of (fun _ _ _ _ _ k => lv_iconst (v := 1) hx hb dJ4_unlinkFirst_57 rfl (lv_iadd hx hb dJ4_unlinkFirst_58 k)) ?_
    refine rk_put C H.2.2.1 (hc_J4 H) (k := 0) (Nat.le_of_ble_eq_true rfl) in_J4 (ty0 := tyJ4) tyJ4_ok nmJ4 q188 (u_same (C.2.2.2.1 _ q184)) (Or.inl rfl) rfl rfl dJ4_unlinkFirst_59 ?_
    refine rk_of (fun _ _ _ _ _ k => lr_aload_n hx hb dJ4_unlinkFirst_62 rfl (lv_at hl 1 rfl) k) ?_
    exact rk_top (rf_aret C (Or.inl ⟨_, rfl⟩) dJ4_unlinkFirst_63)
  · refine rk_ite (fun _ _ _ _ _ k1 k2 => lr_ifnonnull (tgt := 37) hx hb dJ4_unlinkFirst_26 (by decide) k2 k1) (fun c_26 => ?_) (fun c_26 => ?_)
    · refine rk_of (fun _ _ _ _ _ k => lr_aload_n hx hb dJ4_unlinkFirst_29 rfl (lv_at hl 2 rfl) (lr_null hx hb dJ4_unlinkFirst_30 k)) ?_
      refine rk_put C H.2.2.1 (hc_J4 H) (k := 3) (Nat.le_of_ble_eq_true rfl) in_J4 (ty0 := tyJ4) tyJ4_ok nmJ4 q228 (fun _ h => h) (Or.inl rfl) (zn_R rfl _) (zp_R rfl _) dJ4_unlinkFirst_31 ?_
      refine rk_of (fun _ _ _ _ _ k => lv_goto (tgt := 42) hx hb dJ4_unlinkFirst_34 (by decide) k) ?_
      exact hJ42 () ls (lv_sub hl [2, 1] rfl)
    · refine rk_of (fun _ _ _ _ _ k => lr_aload_n hx hb dJ4_unlinkFirst_37 rfl (lv_at hl 0 rfl) (lr_null hx hb dJ4_unlinkFirst_38 k)) ?_
      refine rk_put C H.2.2.1 (hc_J18 H) (k := 2) (Nat.le_of_ble_eq_true rfl) in_J18 (ty0 := tyJ18) tyJ18_ok nmJ18 q1254 (fun _ h => h) (Or.inl rfl) (zn_R rfl _) (zp_R rfl _) dJ4_unlinkFirst_39 ?_
      exact hJ42 () ls (lv_sub hl [2, 1] rfl)
theorem hd_J4_removeFirst : yJ4_removeFirst.cls ≠ "java/lang/invoke/MethodHandle" ∧ yJ4_removeFirst.cls ≠ "java/lang/invoke/VarHandle" ∧ (parseMethodDescriptor yJ4_removeFirst.desc).map (fun d => d.parameters.length) = some 0 := by decide +kernel
noncomputable def fn_J4_removeFirst (K : zm_K) (a0 : zm_R) : zm_M zm_R :=
  zm_bnd (zm_getR a0 1 2) fun v1 =>
  if v1 = none then
    zm_bnd (zm_new 12 [.null, .null, .null, .null, .null, .int 0]) fun v9 =>
    zm_bnd (fn_J26_init K (some v9)) fun _ =>
    zm_ath (some v9)
  else
    zm_bnd (zm_bnd (zm_is a0 1) fun _ => fn_J4_unlinkFirst K a0 v1) fun v19 =>
    zm_ret v19
theorem ct_J4_removeFirst {l : Launch} {Ω : zm_W} {K : zm_K} (H : zm_H Ω K) (a0 : zm_R) : zm_Ct l Ω yJ4_removeFirst (ws_ yJ4_removeFirst cJ4_removeFirst 2 (Option.some (Jvm.ClassFile.FieldType.object "java/lang/Object"))) 8 208 [va_rf a0] zm_tvR (fn_J4_removeFirst K a0) := by
  refine zm_ct H.1 (by decide +kernel) (zl_le (zl_R zl_nil) (Nat.le_of_ble_eq_true rfl)) ?_
  intro p e R s m args below meth c n0 k0 C hX ls hl
  have hx := C.1
  have hb := C.2.1
  simp only [zg_R, zg_nil] at hl
  have hl : lv_has ls 2 [(0, va_rf a0)] := hl
  refine rk_rf ?_
  unfold fn_J4_removeFirst
  refine rk_of (fun _ _ _ _ _ k => lr_aload_n hx hb dJ4_removeFirst_0 rfl (lv_at hl 0 rfl) k) ?_
  refine rk_get zm_rdR_eq C (hc_J4 H) (k := 2) (Nat.le_of_ble_eq_true rfl) in_J4 q227 (fun _ h => h) dJ4_removeFirst_1 (fun v1 => ?_)
  refine rk_ofs (fun _ _ _ _ _ k => lr_astore_n hx hb dJ4_removeFirst_4 rfl hl (Nat.le_of_ble_eq_true rfl) [0] rfl ⟨(by first | exact va_rf_cat _ | rfl), trivial⟩ k) (fun ls hl => ?_)
  refine rk_ite (fun _ _ _ _ _ k1 k2 => lr_aload_n hx hb dJ4_removeFirst_5 rfl (lv_at hl 0 rfl) (lr_ifnonnull (tgt := 17) hx hb dJ4_removeFirst_6 (by decide) k2 k1)) (fun c_6 => ?_) (fun c_6 => ?_)
  · refine rk_new C (hc_J26 H) in_J26 tyJ26_ok q1345 q787 q134 (fs := [.null, .null, .null, .null, .null, .int 0]) rfl (fun j hj => zdf_J26 j hj) dJ4_removeFirst_9 (fun v9 => ?_)
    refine rk_of (fun _ _ _ _ _ k => lv_dup hx hb dJ4_removeFirst_12 (va_rf_cat _) k) ?_
    refine rk_callV hX (cl_I (rest := [va_rf (some v9)]) C (ct_J26_init H (some v9)) (lw_meth q797) q134 q1346 q796 rfl hd_J26_init ⟨(Nat.le_of_ble_eq_true rfl), (Nat.le_of_ble_eq_true rfl)⟩ rfl hl.1 rfl (zw_le (zw_R zw_nil) (Nat.le_of_ble_eq_true rfl)) dJ4_removeFirst_13) (fun _ => ?_)
    exact rk_ath H C hX dJ4_removeFirst_16
  · refine rk_of (fun _ _ _ _ _ k => lr_aload_n hx hb dJ4_removeFirst_17 rfl (lv_at hl 1 rfl) (lr_aload_n hx hb dJ4_removeFirst_18 rfl (lv_at hl 0 rfl) k)) ?_
    refine rk_callR hX (cl_V (rest := []) (av := [va_rf v1]) C (hc_J4 H) (ct_J4_unlinkFirst H a0 v1) (lw_V q1347 q1349 qs14 q107 q1350) ⟨rfl, hd_J4_unlinkFirst⟩ ⟨(Nat.le_of_ble_eq_true rfl), (Nat.le_of_ble_eq_true rfl)⟩ rfl hl.1 rfl (zw_le zw_nil (Nat.le_of_ble_eq_true rfl)) dJ4_removeFirst_19) (fun v19 => ?_)
    exact rk_top (rf_aret C (Or.inl ⟨_, rfl⟩) dJ4_removeFirst_22)
theorem hd_J4_addLast : yJ4_addLast.cls ≠ "java/lang/invoke/MethodHandle" ∧ yJ4_addLast.cls ≠ "java/lang/invoke/VarHandle" ∧ (parseMethodDescriptor yJ4_addLast.desc).map (fun d => d.parameters.length) = some 1 := by decide +kernel
noncomputable def fn_J4_addLast (K : zm_K) (a0 : zm_R) (a1 : zm_R) : zm_M Unit :=
  zm_bnd (zm_bnd (zm_is a0 1) fun _ => fn_J4_linkLast K a0 a1) fun _ =>
  zm_ret ()
theorem ct_J4_addLast {l : Launch} {Ω : zm_W} {K : zm_K} (H : zm_H Ω K) (a0 : zm_R) (a1 : zm_R) : zm_Ct l Ω yJ4_addLast (ws_ yJ4_addLast cJ4_addLast 2 (Option.none : Option Jvm.ClassFile.FieldType)) 4 130 [va_rf a0, va_rf a1] zm_tvV (fn_J4_addLast K a0 a1) := by
  refine zm_ct H.1 (by decide +kernel) (zl_le (zl_R (zl_R zl_nil)) (Nat.le_of_ble_eq_true rfl)) ?_
  intro p e R s m args below meth c n0 k0 C hX ls hl
  have hx := C.1
  have hb := C.2.1
  simp only [zg_R, zg_nil] at hl
  have hl : lv_has ls 2 [(0, va_rf a0), (1, va_rf a1)] := hl
  refine rk_rf ?_
  unfold fn_J4_addLast
  refine rk_of (fun _ _ _ _ _ k => lr_aload_n hx hb dJ4_addLast_0 rfl (lv_at hl 0 rfl) (lr_aload_n hx hb dJ4_addLast_1 rfl (lv_at hl 1 rfl) k)) ?_
  refine rk_callV hX (cl_V (rest := []) (av := [va_rf a1]) C (hc_J4 H) (ct_J4_linkLast H a0 a1) (lw_V q1237 q1238 q1239 q107 q1240) ⟨rfl, hd_J4_linkLast⟩ ⟨(Nat.le_of_ble_eq_true rfl), (Nat.le_of_ble_eq_true rfl)⟩ rfl hl.1 rfl (zw_le zw_nil (Nat.le_of_ble_eq_true rfl)) dJ4_addLast_2) (fun _ => ?_)
  exact rk_top (rf_vret C dJ4_addLast_5)
theorem hd_X1_become : yX1_become.cls ≠ "java/lang/invoke/MethodHandle" ∧ yX1_become.cls ≠ "java/lang/invoke/VarHandle" ∧ (parseMethodDescriptor yX1_become.desc).map (fun d => d.parameters.length) = some 2 := by decide +kernel
noncomputable def fn_X1_become (K : zm_K) (a0 : zm_R) (a1 : zm_R) (a2 : Int32) : zm_M Int32 :=
  zm_bnd (zm_getR a0 18 2) fun v1 =>
  zm_bnd (zm_bnd (zm_is v1 1) fun _ => fn_J4_size K v1) fun v4 =>
  zm_bnd (α := Unit) (
      if v4 = 8 then
        zm_bnd (zm_getR a0 18 2) fun v13 =>
        zm_bnd (zm_bnd (zm_is v13 1) fun _ => fn_J4_removeFirst K v13) fun v16 =>
        zm_ret ()
      else
        zm_ret ()
    ) fun (_ : Unit) =>
  zm_bnd (zm_getR a0 18 2) fun v21 =>
  zm_bnd (zm_getR a0 18 0) fun v25 =>
  zm_bnd (zm_bnd (zm_is v21 1) fun _ => fn_J4_addLast K v21 v25) fun _ =>
  zm_bnd (zm_putF K a0 18 0 (va_rf a1)) fun _ =>
  zm_ret a2
theorem ct_X1_become {l : Launch} {Ω : zm_W} {K : zm_K} (H : zm_H Ω K) (a0 : zm_R) (a1 : zm_R) (a2 : Int32) : zm_Ct l Ω yX1_become (ws_ yX1_become cX1_become 3 (Option.some Jvm.ClassFile.FieldType.int)) 9 229 [va_rf a0, va_rf a1, .int a2] zm_tvI (fn_X1_become K a0 a1 a2) := by
  refine zm_ct H.1 (by decide +kernel) (zl_le (zl_R (zl_R (zl_I zl_nil))) (Nat.le_of_ble_eq_true rfl)) ?_
  intro p e R s m args below meth c n0 k0 C hX ls hl
  have hx := C.1
  have hb := C.2.1
  simp only [zg_I, zg_R, zg_nil] at hl
  have hl : lv_has ls 3 [(0, va_rf a0), (1, va_rf a1), (2, .int a2)] := hl
  refine rk_rf ?_
  unfold fn_X1_become
  refine rk_of (fun _ _ _ _ _ k => lr_aload_n hx hb dX1_become_0 rfl (lv_at hl 0 rfl) k) ?_
  refine rk_get zm_rdR_eq C (hc_X1 H) (k := 2) (Nat.le_of_ble_eq_true rfl) in_X1 q273 (fun _ h => h) dX1_become_1 (fun v1 => ?_)
  refine rk_callI hX (cl_V (rest := []) (av := []) C (hc_J4 H) (ct_J4_size H v1) (lw_V q1340 q755 q3081 q107 q756) ⟨rfl, hd_J4_size⟩ ⟨(Nat.le_of_ble_eq_true rfl), (Nat.le_of_ble_eq_true rfl)⟩ rfl hl.1 rfl (zw_le zw_nil (Nat.le_of_ble_eq_true rfl)) dX1_become_4) (fun v4 => ?_)
  refine rk_of (fun _ _ _ _ _ k => lv_bipush (v := 8) hx hb dX1_become_7 rfl k) ?_
  refine rk_join (β := Unit) (fun (b20 : Unit) ls => lv_has ls 3 [(0, va_rf a0), (1, va_rf a1), (2, .int a2)]) (fun (b20 : Unit) ls => F0 m 20 ls []) (fun b20 ls hl => ?_) (fun hJ20 => ?_)
  · refine rk_of (fun _ _ _ _ _ k => lr_aload_n hx hb dX1_become_20 rfl (lv_at hl 0 rfl) k) ?_
    refine rk_get zm_rdR_eq C (hc_X1 H) (k := 2) (Nat.le_of_ble_eq_true rfl) in_X1 q273 (fun _ h => h) dX1_become_21 (fun v21 => ?_)
    refine rk_of (fun _ _ _ _ _ k => lr_aload_n hx hb dX1_become_24 rfl (lv_at hl 0 rfl) k) ?_
    refine rk_get zm_rdR_eq C (hc_X1 H) (k := 0) (Nat.le_of_ble_eq_true rfl) in_X1 q271 (fun _ h => h) dX1_become_25 (fun v25 => ?_)
    refine rk_callV hX (cl_V (rest := []) (av := [va_rf v25]) C (hc_J4 H) (ct_J4_addLast H v21 v25) (lw_V q1351 q1352 q1353 q107 q1354) ⟨rfl, hd_J4_addLast⟩ ⟨(Nat.le_of_ble_eq_true rfl), (Nat.le_of_ble_eq_true rfl)⟩ rfl hl.1 rfl (zw_le zw_nil (Nat.le_of_ble_eq_true rfl)) dX1_become_28) (fun _ => ?_)
    refine rk_of (fun _ _ _ _ _ k => lr_aload_n hx hb dX1_become_31 rfl (lv_at hl 0 rfl) (lr_aload_n hx hb dX1_become_32 rfl (lv_at hl 1 rfl) k)) ?_
    refine rk_put C H.2.2.1 (hc_X1 H) (k := 0) (Nat.le_of_ble_eq_true rfl) in_X1 (ty0 := tyX1) tyX1_ok nmX1 q271 (fun _ h => h) (Or.inl rfl) (zn_R rfl _) (zp_R rfl _) dX1_become_33 ?_
    refine rk_of (fun _ _ _ _ _ k => lv_iload_n hx hb dX1_become_36 rfl (lv_at hl 2 rfl) k) ?_
    exact rk_top (rf_iret C rfl dX1_become_37)
  · refine rk_ite (fun _ _ _ _ _ k1 k2 => lv_icmp_ne (tgt := 20) hx hb dX1_become_9 (by decide) k2 k1) (fun c_9 => ?_) (fun c_9 => ?_)
    · refine rk_of (fun _ _ _ _ _ k => lr_aload_n hx hb dX1_become_12 rfl (lv_at hl 0 rfl) k) ?_
      refine rk_get zm_rdR_eq C (hc_X1 H) (k := 2) (Nat.le_of_ble_eq_true rfl) in_X1 q273 (fun _ h => h) dX1_become_13 (fun v13 => ?_)
      refine rk_callR hX (cl_V (rest := []) (av := []) C (hc_J4 H) (ct_J4_removeFirst H v13) (lw_V q1341 q1342 q1343 q107 q1344) ⟨rfl, hd_J4_removeFirst⟩ ⟨(Nat.le_of_ble_eq_true rfl), (Nat.le_of_ble_eq_true rfl)⟩ rfl hl.1 rfl (zw_le zw_nil (Nat.le_of_ble_eq_true rfl)) dX1_become_16) (fun v16 => ?_)
      refine rk_of (fun _ _ _ _ _ k => lv_pop hx hb dX1_become_19 (va_rf_cat _) k) ?_
      exact hJ20 () ls (lv_sub hl [0, 1, 2] rfl)
    · exact hJ20 () ls (lv_sub hl [0, 1, 2] rfl)
theorem hd_J28_init : yJ28_init.cls ≠ "java/lang/invoke/MethodHandle" ∧ yJ28_init.cls ≠ "java/lang/invoke/VarHandle" ∧ (parseMethodDescriptor yJ28_init.desc).map (fun d => d.parameters.length) = some 0 := by decide +kernel
noncomputable def fn_J28_init (K : zm_K) (a0 : zm_R) : zm_M Unit :=
  zm_bnd (zm_bnd (zm_nn a0) fun _ => fn_J11_init_2 K a0) fun _ =>
  zm_ret ()
theorem ct_J28_init {l : Launch} {Ω : zm_W} {K : zm_K} (H : zm_H Ω K) (a0 : zm_R) : zm_Ct l Ω yJ28_init (ws_ yJ28_init cJ28_init 1 (Option.none : Option Jvm.ClassFile.FieldType)) 7 188 [va_rf a0] zm_tvV (fn_J28_init K a0) := by
  refine zm_ct H.1 (by decide +kernel) (zl_le (zl_R zl_nil) (Nat.le_of_ble_eq_true rfl)) ?_
  intro p e R s m args below meth c n0 k0 C hX ls hl
  have hx := C.1
  have hb := C.2.1
  simp only [zg_R, zg_nil] at hl
  have hl : lv_has ls 1 [(0, va_rf a0)] := hl
  refine rk_rf ?_
  unfold fn_J28_init
  refine rk_of (fun _ _ _ _ _ k => lr_aload_n hx hb dJ28_init_0 rfl (lv_at hl 0 rfl) k) ?_
  refine rk_callV hX (cl_Ir (rest := []) C (ct_J11_init_2 H a0) (lw_meth q800) q115 q1367 q799 rfl hd_J11_init_2 ⟨(Nat.le_of_ble_eq_true rfl), (Nat.le_of_ble_eq_true rfl)⟩ rfl hl.1 rfl (zw_le zw_nil (Nat.le_of_ble_eq_true rfl)) dJ28_init_1) (fun _ => ?_)
  exact rk_top (rf_vret C dJ28_init_4)
theorem hd_X1_changed : yX1_changed.cls ≠ "java/lang/invoke/MethodHandle" ∧ yX1_changed.cls ≠ "java/lang/invoke/VarHandle" ∧ (parseMethodDescriptor yX1_changed.desc).map (fun d => d.parameters.length) = some 1 := by decide +kernel
noncomputable def fn_X1_changed (K : zm_K) (a0 : zm_R) (a1 : zm_R) : zm_M Int32 :=
  zm_bnd (zm_getR a0 18 0) fun v1 =>
  zm_bnd (zm_bnd (zm_is v1 19) fun _ => fn_X2_copy K v1) fun v4 =>
  zm_cth (fn_deed K a1 v4) (fun (E12 : String) (q12 : Nat) =>
      if E12 ∈ (["BoxSpans$Refusal"] : List String) then
        zm_bnd (zm_putF K a0 18 5 (va_rf (some q12))) fun _ =>
        zm_bnd (zm_new 13 [.null, .null, .null, .null, .null, .int 0]) fun v27 =>
        zm_bnd (fn_J28_init K (some v27)) fun _ =>
        zm_ath (some v27)
      else
        if E12 ∈ (["java/lang/IllegalArgumentException", "java/lang/IndexOutOfBoundsException", "java/util/NoSuchElementException", "java/lang/UnsupportedOperationException", "java/lang/ArrayIndexOutOfBoundsException", "java/lang/IllegalStateException", "java/lang/StringIndexOutOfBoundsException", "java/lang/ArithmeticException", "BoxSpans$TextError"] : List String) then
          zm_thr E12 q12
        else
          zm_fl
    ) fun v12 =>
  zm_cth (zm_bnd (zm_is a0 18) fun _ => fn_X1_become K a0 v4 v12) (fun (E17 : String) (q17 : Nat) =>
      if E17 ∈ (["BoxSpans$Refusal"] : List String) then
        zm_bnd (zm_putF K a0 18 5 (va_rf (some q17))) fun _ =>
        zm_bnd (zm_new 13 [.null, .null, .null, .null, .null, .int 0]) fun v27 =>
        zm_bnd (fn_J28_init K (some v27)) fun _ =>
        zm_ath (some v27)
      else
        if E17 ∈ (["java/lang/IllegalArgumentException", "java/lang/IndexOutOfBoundsException", "java/util/NoSuchElementException", "java/lang/UnsupportedOperationException", "java/lang/ArrayIndexOutOfBoundsException", "java/lang/IllegalStateException", "java/lang/StringIndexOutOfBoundsException", "java/lang/ArithmeticException", "BoxSpans$TextError"] : List String) then
          zm_thr E17 q17
        else
          zm_fl
    ) fun v17 =>
  zm_ret v17
theorem ct_X1_changed {l : Launch} {Ω : zm_W} {K : zm_K} (H : zm_H Ω K) (a0 : zm_R) (a1 : zm_R) : zm_Ct l Ω yX1_changed (wsW_ yX1_changed cX1_changed 4 (Option.some Jvm.ClassFile.FieldType.int) [(8, 20, 21, 1)]) 21 506 [va_rf a0, va_rf a1] zm_tvI (fn_X1_changed K a0 a1) := by
  refine zm_ctW H.1 (by decide +kernel) (zl_le (zl_R (zl_R zl_nil)) (Nat.le_of_ble_eq_true rfl)) ?_
  intro p e R s m args below meth c n0 k0 C hN hT ls hl
  have hx := C.1
  have hb := C.2.1
  simp only [zg_R, zg_nil] at hl
  have hl : lv_has ls 4 [(0, va_rf a0), (1, va_rf a1)] := hl
  refine rk_rf ?_
  unfold fn_X1_changed
  refine rk_of (fun _ _ _ _ _ k => lr_aload_n hx hb dX1_changed_0 rfl (lv_at hl 0 rfl) k) ?_
  refine rk_get zm_rdR_eq C (hc_X1 H) (k := 0) (Nat.le_of_ble_eq_true rfl) in_X1 q271 (fun _ h => h) dX1_changed_1 (fun v1 => ?_)
  refine rk_callPR (rx_un C hT (by decide)) (cl_V (rest := []) (av := []) C (hc_X2 H) (ct_X2_copy H v1) (lw_V q1266 q1267 q1268 q102 q1269) ⟨rfl, hd_X2_copy⟩ ⟨(Nat.le_of_ble_eq_true rfl), (Nat.le_of_ble_eq_true rfl)⟩ rfl hl.1 rfl (zw_le zw_nil (Nat.le_of_ble_eq_true rfl)) dX1_changed_4) (fun v4 => ?_)
  refine rk_ofs (fun _ _ _ _ _ k => lr_astore_n hx hb dX1_changed_7 rfl hl (Nat.le_of_ble_eq_true rfl) [0, 1] rfl ⟨trivial, ⟨(by first | exact va_rf_cat _ | rfl), trivial⟩⟩ k) (fun ls hl => ?_)
  refine rk_of (fun _ _ _ _ _ k => lr_aload_n hx hb dX1_changed_8 rfl (lv_at hl 1 rfl) (lr_aload_n hx hb dX1_changed_9 rfl (lv_at hl 0 rfl) (lr_aload_n hx hb dX1_changed_10 rfl (lv_at hl 2 rfl) (lr_aload_n hx hb dX1_changed_11 rfl (lv_at hl 0 rfl) k)))) ?_
  refine rk_cthI (cl_deed (rest := [va_rf v4, va_rf a0]) H C q1333 (zn_wD H C q1335) (zn_wI H C (by decide) q1334 q1335) ⟨(Nat.le_of_ble_eq_true rfl), (Nat.le_of_ble_eq_true rfl)⟩ hl.1 rfl (zw_le (zw_R (zw_R zw_nil)) (Nat.le_of_ble_eq_true rfl)) dX1_changed_12) (fun E12 q12 => ?_) (fun v12 => ?_)
  · refine rx_ite (fun h12_0 => ?_) (fun h12_0 => ?_)
    · refine rx_cat (k := 0) C hT rfl zp_nil ⟨by decide, by decide⟩ (by decide) q1152 ((zp_cons (P := fun E => (Cond.castable E "BoxSpans$Refusal").before args s = true) (zn_wC H C q1154) zp_nil) E12 h12_0) ?_
      refine rk_ofs (fun _ _ _ _ _ k => lr_astore_n hx hb dX1_changed_21 rfl hl (Nat.le_of_ble_eq_true rfl) [1] rfl ⟨trivial, trivial⟩ k) (fun ls hl => ?_)
      refine rk_of (fun _ _ _ _ _ k => lr_aload_n hx hb dX1_changed_22 rfl (lv_at hl 1 rfl) (lr_aload_n hx hb dX1_changed_23 rfl (lv_at hl 0 rfl) k)) ?_
      refine rk_put C H.2.2.1 (hc_X1 H) (k := 5) (Nat.le_of_ble_eq_true rfl) in_X1 (ty0 := tyX1) tyX1_ok nmX1 q276 (fun _ h => h) (Or.inl rfl) (zn_R rfl _) (zp_R rfl _) dX1_changed_24 ?_
      refine rk_new C (hc_J28 H) in_J28 tyJ28_ok q1355 q1356 q138 (fs := [.null, .null, .null, .null, .null, .int 0]) rfl (fun j hj => zdf_J28 j hj) dX1_changed_27 (fun v27 => ?_)
      refine rk_of (fun _ _ _ _ _ k => lv_dup hx hb dX1_changed_30 (va_rf_cat _) k) ?_
      refine rk_callPV (rx_un C hT (by decide)) (cl_I (rest := [va_rf (some v27)]) C (ct_J28_init H (some v27)) (lw_meth q1366) q138 q1364 q1365 rfl hd_J28_init ⟨(Nat.le_of_ble_eq_true rfl), (Nat.le_of_ble_eq_true rfl)⟩ rfl hl.1 rfl (zw_le (zw_R zw_nil) (Nat.le_of_ble_eq_true rfl)) dX1_changed_31) (fun _ => ?_)
      exact rk_athP H C (rx_un C hT (by decide)) dX1_changed_34
    · refine rx_ite (fun h12_x => ?_) (fun _ => rx_fl)
      exact rx_out C hT (zp_cons (Or.inr ⟨by decide, _, q1152, zh_ncs H C (L := ["java/lang/IllegalArgumentException", "java/lang/IndexOutOfBoundsException", "java/util/NoSuchElementException", "java/lang/UnsupportedOperationException", "java/lang/ArrayIndexOutOfBoundsException", "java/lang/IllegalStateException", "java/lang/StringIndexOutOfBoundsException", "java/lang/ArithmeticException", "BoxSpans$TextError"]) (by decide) h12_x⟩) zp_nil)
  refine rk_cthI (cl_V (rest := []) (av := [va_rf v4, .int v12]) C (hc_X1 H) (ct_X1_become H a0 v4 v12) (lw_V q1336 q1338 qs13 q101 q1339) ⟨rfl, hd_X1_become⟩ ⟨(Nat.le_of_ble_eq_true rfl), (Nat.le_of_ble_eq_true rfl)⟩ rfl hl.1 rfl (zw_le zw_nil (Nat.le_of_ble_eq_true rfl)) dX1_changed_17) (fun E17 q17 => ?_) (fun v17 => ?_)
  · refine rx_ite (fun h17_0 => ?_) (fun h17_0 => ?_)
    · refine rx_cat (k := 0) C hT rfl zp_nil ⟨by decide, by decide⟩ (by decide) q1152 ((zp_cons (P := fun E => (Cond.castable E "BoxSpans$Refusal").before args s = true) (zn_wC H C q1154) zp_nil) E17 h17_0) ?_
      refine rk_ofs (fun _ _ _ _ _ k => lr_astore_n hx hb dX1_changed_21 rfl hl (Nat.le_of_ble_eq_true rfl) [1] rfl ⟨trivial, trivial⟩ k) (fun ls hl => ?_)
      refine rk_of (fun _ _ _ _ _ k => lr_aload_n hx hb dX1_changed_22 rfl (lv_at hl 1 rfl) (lr_aload_n hx hb dX1_changed_23 rfl (lv_at hl 0 rfl) k)) ?_
      refine rk_put C H.2.2.1 (hc_X1 H) (k := 5) (Nat.le_of_ble_eq_true rfl) in_X1 (ty0 := tyX1) tyX1_ok nmX1 q276 (fun _ h => h) (Or.inl rfl) (zn_R rfl _) (zp_R rfl _) dX1_changed_24 ?_
      refine rk_new C (hc_J28 H) in_J28 tyJ28_ok q1355 q1356 q138 (fs := [.null, .null, .null, .null, .null, .int 0]) rfl (fun j hj => zdf_J28 j hj) dX1_changed_27 (fun v27 => ?_)
      refine rk_of (fun _ _ _ _ _ k => lv_dup hx hb dX1_changed_30 (va_rf_cat _) k) ?_
      refine rk_callPV (rx_un C hT (by decide)) (cl_I (rest := [va_rf (some v27)]) C (ct_J28_init H (some v27)) (lw_meth q1366) q138 q1364 q1365 rfl hd_J28_init ⟨(Nat.le_of_ble_eq_true rfl), (Nat.le_of_ble_eq_true rfl)⟩ rfl hl.1 rfl (zw_le (zw_R zw_nil) (Nat.le_of_ble_eq_true rfl)) dX1_changed_31) (fun _ => ?_)
      exact rk_athP H C (rx_un C hT (by decide)) dX1_changed_34
    · refine rx_ite (fun h17_x => ?_) (fun _ => rx_fl)
      exact rx_out C hT (zp_cons (Or.inr ⟨by decide, _, q1152, zh_ncs H C (L := ["java/lang/IllegalArgumentException", "java/lang/IndexOutOfBoundsException", "java/util/NoSuchElementException", "java/lang/UnsupportedOperationException", "java/lang/ArrayIndexOutOfBoundsException", "java/lang/IllegalStateException", "java/lang/StringIndexOutOfBoundsException", "java/lang/ArithmeticException", "BoxSpans$TextError"]) (by decide) h17_x⟩) zp_nil)
  exact rk_top (rf_iret C rfl dX1_changed_20)
theorem hd_X1_box : yX1_box.cls ≠ "java/lang/invoke/MethodHandle" ∧ yX1_box.cls ≠ "java/lang/invoke/VarHandle" ∧ (parseMethodDescriptor yX1_box.desc).map (fun d => d.parameters.length) = some 1 := by decide +kernel
noncomputable def fn_X1_box (K : zm_K) (a0 : zm_R) (a1 : Int32) : zm_M Int32 :=
  zm_bnd (fn_X1_isIn K a1 1 8) fun v4 =>
  zm_bnd (fn_X1_require K v4) fun _ =>
  zm_bnd (zm_new 100 [.int a1]) fun v12 =>
  zm_bnd (zm_bnd (zm_is a0 18) fun _ => fn_X1_changed K a0 (some v12)) fun v17 =>
  zm_ret v17
theorem ct_X1_box {l : Launch} {Ω : zm_W} {K : zm_K} (H : zm_H Ω K) (a0 : zm_R) (a1 : Int32) : zm_Ct l Ω yX1_box (ws_ yX1_box cX1_box 2 (Option.some Jvm.ClassFile.FieldType.int)) 22 3200 [va_rf a0, .int a1] zm_tvI (fn_X1_box K a0 a1) := by
  refine zm_ctN H.1 (by decide +kernel) (zl_le (zl_R (zl_I zl_nil)) (Nat.le_of_ble_eq_true rfl)) ?_
  intro p e R s m args below meth c n0 k0 C hX hN ls hl
  have hx := C.1
  have hb := C.2.1
  simp only [zg_I, zg_R, zg_nil] at hl
  have hl : lv_has ls 2 [(0, va_rf a0), (1, .int a1)] := hl
  refine rk_rf ?_
  unfold fn_X1_box
  refine rk_of (fun _ _ _ _ _ k => lv_iload_n hx hb dX1_box_0 rfl (lv_at hl 1 rfl) (lv_iconst (v := 1) hx hb dX1_box_1 rfl (lv_bipush (v := 8) hx hb dX1_box_2 rfl k))) ?_
  refine rk_callI hX (cl_S (rest := []) C (ct_X1_isIn H a1 1 8) (lw_S q1132 q1133 q101 q1134) hd_X1_isIn ⟨(Nat.le_of_ble_eq_true rfl), (Nat.le_of_ble_eq_true rfl)⟩ rfl hl.1 rfl (zw_le zw_nil (Nat.le_of_ble_eq_true rfl)) dX1_box_4) (fun v4 => ?_)
  refine rk_callV hX (cl_S (rest := []) C (ct_X1_require H v4) (lw_S q1135 q1136 q101 q1137) hd_X1_require ⟨(Nat.le_of_ble_eq_true rfl), (Nat.le_of_ble_eq_true rfl)⟩ rfl hl.1 rfl (zw_le zw_nil (Nat.le_of_ble_eq_true rfl)) dX1_box_7) (fun _ => ?_)
  refine rk_of (fun _ _ _ _ _ k => lr_aload_n hx hb dX1_box_10 rfl (lv_at hl 0 rfl) (lv_iload_n hx hb dX1_box_11 rfl (lv_at hl 1 rfl) k)) ?_
  refine rk_lam H C hN (i := 0) rfl (by decide) zk_ok0 (zh_O H) (vals := [.int a1]) (rest := [va_rf a0]) rfl (zk_cons rfl zk_nil) (zf_cons rfl zf_nil) hl.1 rfl (zw_ad (zw_I (zw_R zw_nil)) (Nat.le_of_ble_eq_true rfl)) dX1_box_12 (fun v12 => ?_)
  refine rk_callI hX (cl_VX (rest := []) (av := [va_rf (some v12)]) C (hc_X1 H) (ct_X1_changed H a0 (some v12)) (lw_VW q1262 q1264 qs12 q101 q1265) ⟨rfl, hd_X1_changed⟩ ⟨(Nat.le_of_ble_eq_true rfl), (Nat.le_of_ble_eq_true rfl)⟩ rfl hl.1 rfl (zw_le zw_nil (Nat.le_of_ble_eq_true rfl)) dX1_box_17) (fun v17 => ?_)
  exact rk_top (rf_iret C rfl dX1_box_20)
theorem hd_X0_box : yX0_box.cls ≠ "java/lang/invoke/MethodHandle" ∧ yX0_box.cls ≠ "java/lang/invoke/VarHandle" ∧ (parseMethodDescriptor yX0_box.desc).map (fun d => d.parameters.length) = some 3 := by decide +kernel
noncomputable def fn_X0_box (K : zm_K) (a0 : zm_R) (a1 : Int32) (a2 : zm_R) : zm_M Int32 :=
  zm_cth (zm_bnd (zm_is a0 18) fun _ => fn_X1_box K a0 a1) (fun (E4 : String) (q4 : Nat) =>
      if E4 ∈ (["java/lang/IllegalArgumentException"] : List String) then
        zm_ret 1
      else
        if E4 ∈ (["java/lang/UnsupportedOperationException"] : List String) then
          zm_ret 2
        else
          if E4 ∈ (["java/lang/IndexOutOfBoundsException", "java/util/NoSuchElementException", "java/lang/ArrayIndexOutOfBoundsException", "java/lang/IllegalStateException", "java/lang/StringIndexOutOfBoundsException", "java/lang/ArithmeticException", "BoxSpans$Refusal", "BoxSpans$TextError"] : List String) then
            zm_thr E4 q4
          else
            zm_fl
    ) fun v4 =>
  zm_bnd (zm_astJ K a2 0 ((v4).toInt64)) fun _ =>
  zm_ret 0
theorem ct_X0_box {l : Launch} {Ω : zm_W} {K : zm_K} (H : zm_H Ω K) (a0 : zm_R) (a1 : Int32) (a2 : zm_R) : zm_Ct l Ω yX0_box (wsW_ yX0_box cX0_box 4 (Option.some Jvm.ClassFile.FieldType.int) [(0, 9, 12, 13), (0, 9, 15, 15)]) 23 3221 [va_rf a0, .int a1, va_rf a2] zm_tvI (fn_X0_box K a0 a1 a2) := by
  refine zm_ctW H.1 (by decide +kernel) (zl_le (zl_R (zl_I (zl_R zl_nil))) (Nat.le_of_ble_eq_true rfl)) ?_
  intro p e R s m args below meth c n0 k0 C hN hT ls hl
  have hx := C.1
  have hb := C.2.1
  simp only [zg_I, zg_R, zg_nil] at hl
  have hl : lv_has ls 4 [(0, va_rf a0), (1, .int a1), (2, va_rf a2)] := hl
  refine rk_rf ?_
  unfold fn_X0_box
  refine rk_of (fun _ _ _ _ _ k => lr_aload_n hx hb dX0_box_0 rfl (lv_at hl 2 rfl) (lv_iconst (v := 0) hx hb dX0_box_1 rfl (lr_aload_n hx hb dX0_box_2 rfl (lv_at hl 0 rfl) (lv_iload_n hx hb dX0_box_3 rfl (lv_at hl 1 rfl) k)))) ?_
  refine rk_cthI (cl_V (rest := [.int 0, va_rf a2]) (av := [.int a1]) C (hc_X1 H) (ct_X1_box H a0 a1) (lw_V q1128 q1129 q1130 q101 q1131) ⟨rfl, hd_X1_box⟩ ⟨(Nat.le_of_ble_eq_true rfl), (Nat.le_of_ble_eq_true rfl)⟩ rfl hl.1 rfl (zw_le (zw_I (zw_R zw_nil)) (Nat.le_of_ble_eq_true rfl)) dX0_box_4) (fun E4 q4 => ?_) (fun v4 => ?_)
  · refine rx_ite (fun h4_0 => ?_) (fun h4_0 => ?_)
    · refine rx_cat (k := 0) C hT rfl zp_nil ⟨by decide, by decide⟩ (by decide) q1126 ((zp_cons (P := fun E => (Cond.castable E "java/lang/IllegalArgumentException").before args s = true) (zn_wC H C q597) zp_nil) E4 h4_0) ?_
      refine rk_ofs (fun _ _ _ _ _ k => lr_astore_n hx hb dX0_box_12 rfl hl (Nat.le_of_ble_eq_true rfl) [] rfl trivial k) (fun ls hl => ?_)
      refine rk_of (fun _ _ _ _ _ k => lv_iconst (v := 1) hx hb dX0_box_13 rfl k) ?_
      exact rk_top (rf_iret C rfl dX0_box_14)
    · refine rx_ite (fun h4_1 => ?_) (fun h4_1 => ?_)
      · refine rx_cat (k := 1) C hT rfl (zp_cons (Or.inr ⟨by decide, _, q1126, zh_ncs H C (L := ["java/lang/UnsupportedOperationException"]) (by decide) h4_1⟩) zp_nil) ⟨by decide, by decide⟩ (by decide) q1127 ((zp_cons (P := fun E => (Cond.castable E "java/lang/UnsupportedOperationException").before args s = true) (zn_wC H C q1357) zp_nil) E4 h4_1) ?_
        refine rk_ofs (fun _ _ _ _ _ k => lr_astore_n hx hb dX0_box_15 rfl hl (Nat.le_of_ble_eq_true rfl) [] rfl trivial k) (fun ls hl => ?_)
        refine rk_of (fun _ _ _ _ _ k => lv_iconst (v := 2) hx hb dX0_box_16 rfl k) ?_
        exact rk_top (rf_iret C rfl dX0_box_17)
      · refine rx_ite (fun h4_x => ?_) (fun _ => rx_fl)
        exact rx_out C hT (zp_cons (Or.inr ⟨by decide, _, q1126, zh_ncs H C (L := ["java/lang/IndexOutOfBoundsException", "java/util/NoSuchElementException", "java/lang/ArrayIndexOutOfBoundsException", "java/lang/IllegalStateException", "java/lang/StringIndexOutOfBoundsException", "java/lang/ArithmeticException", "BoxSpans$Refusal", "BoxSpans$TextError"]) (by decide) h4_x⟩) (zp_cons (Or.inr ⟨by decide, _, q1127, zh_ncs H C (L := ["java/lang/IndexOutOfBoundsException", "java/util/NoSuchElementException", "java/lang/ArrayIndexOutOfBoundsException", "java/lang/IllegalStateException", "java/lang/StringIndexOutOfBoundsException", "java/lang/ArithmeticException", "BoxSpans$Refusal", "BoxSpans$TextError"]) (by decide) h4_x⟩) zp_nil))
  refine rk_of (fun _ _ _ _ _ k => lv_i2l hx hb dX0_box_7 rfl k) ?_
  refine rk_last C H.2.2.1 dX0_box_8 ?_
  refine rk_of (fun _ _ _ _ _ k => lv_goto (tgt := 18) hx hb dX0_box_9 (by decide) (lv_iconst (v := 0) hx hb dX0_box_18 rfl k)) ?_
  exact rk_top (rf_iret C rfl dX0_box_19)
theorem hd_J19_init_2 : yJ19_init_2.cls ≠ "java/lang/invoke/MethodHandle" ∧ yJ19_init_2.cls ≠ "java/lang/invoke/VarHandle" ∧ (parseMethodDescriptor yJ19_init_2.desc).map (fun d => d.parameters.length) = some 0 := by decide +kernel
noncomputable def fn_J19_init_2 (K : zm_K) (a0 : zm_R) : zm_M Unit :=
  zm_bnd (zm_bnd (zm_nn a0) fun _ => fn_J11_init_2 K a0) fun _ =>
  zm_ret ()
theorem ct_J19_init_2 {l : Launch} {Ω : zm_W} {K : zm_K} (H : zm_H Ω K) (a0 : zm_R) : zm_Ct l Ω yJ19_init_2 (ws_ yJ19_init_2 cJ19_init_2 1 (Option.none : Option Jvm.ClassFile.FieldType)) 7 188 [va_rf a0] zm_tvV (fn_J19_init_2 K a0) := by
  refine zm_ct H.1 (by decide +kernel) (zl_le (zl_R zl_nil) (Nat.le_of_ble_eq_true rfl)) ?_
  intro p e R s m args below meth c n0 k0 C hX ls hl
  have hx := C.1
  have hb := C.2.1
  simp only [zg_R, zg_nil] at hl
  have hl : lv_has ls 1 [(0, va_rf a0)] := hl
  refine rk_rf ?_
  unfold fn_J19_init_2
  refine rk_of (fun _ _ _ _ _ k => lr_aload_n hx hb dJ19_init_2_0 rfl (lv_at hl 0 rfl) k) ?_
  refine rk_callV hX (cl_Ir (rest := []) C (ct_J11_init_2 H a0) (lw_meth q800) q115 q1405 q799 rfl hd_J11_init_2 ⟨(Nat.le_of_ble_eq_true rfl), (Nat.le_of_ble_eq_true rfl)⟩ rfl hl.1 rfl (zw_le zw_nil (Nat.le_of_ble_eq_true rfl)) dJ19_init_2_1) (fun _ => ?_)
  exact rk_top (rf_vret C dJ19_init_2_4)
theorem hd_X1_requireIndex : yX1_requireIndex.cls ≠ "java/lang/invoke/MethodHandle" ∧ yX1_requireIndex.cls ≠ "java/lang/invoke/VarHandle" ∧ (parseMethodDescriptor yX1_requireIndex.desc).map (fun d => d.parameters.length) = some 2 := by decide +kernel
noncomputable def fn_X1_requireIndex (K : zm_K) (a0 : Int32) (a1 : Int32) : zm_M Unit :=
  zm_bnd (fn_X1_isIn K a0 0 (a1 - 1)) fun v5 =>
  if v5 = 0 then
    zm_bnd (zm_new 8 [.null, .null, .null, .null, .null, .int 0]) fun v11 =>
    zm_bnd (fn_J19_init_2 K (some v11)) fun _ =>
    zm_ath (some v11)
  else
    zm_ret ()
theorem ct_X1_requireIndex {l : Launch} {Ω : zm_W} {K : zm_K} (H : zm_H Ω K) (a0 : Int32) (a1 : Int32) : zm_Ct l Ω yX1_requireIndex (ws_ yX1_requireIndex cX1_requireIndex 2 (Option.none : Option Jvm.ClassFile.FieldType)) 8 208 [.int a0, .int a1] zm_tvV (fn_X1_requireIndex K a0 a1) := by
  refine zm_ct H.1 (by decide +kernel) (zl_le (zl_I (zl_I zl_nil)) (Nat.le_of_ble_eq_true rfl)) ?_
  intro p e R s m args below meth c n0 k0 C hX ls hl
  have hx := C.1
  have hb := C.2.1
  simp only [zg_I, zg_nil] at hl
  have hl : lv_has ls 2 [(0, .int a0), (1, .int a1)] := hl
  refine rk_rf ?_
  unfold fn_X1_requireIndex
  refine rk_of (fun _ _ _ _ _ k => lv_iload_n hx hb dX1_requireIndex_0 rfl (lv_at hl 0 rfl) (lv_iconst (v := 0) hx hb dX1_requireIndex_1 rfl (lv_iload_n hx hb dX1_requireIndex_2 rfl (lv_at hl 1 rfl) (lv_iconst (v := 1) hx hb dX1_requireIndex_3 rfl (lv_isub hx hb dX1_requireIndex_4 k))))) ?_
  refine rk_callI hX (cl_S (rest := []) C (ct_X1_isIn H a0 0 (a1 - 1)) (lw_S q1132 q1133 q101 q1134) hd_X1_isIn ⟨(Nat.le_of_ble_eq_true rfl), (Nat.le_of_ble_eq_true rfl)⟩ rfl hl.1 rfl (zw_le zw_nil (Nat.le_of_ble_eq_true rfl)) dX1_requireIndex_5) (fun v5 => ?_)
  refine rk_ite (fun _ _ _ _ _ k1 k2 => lv_if_ne (tgt := 19) hx hb dX1_requireIndex_8 (by decide) k2 k1) (fun c_8 => ?_) (fun c_8 => ?_)
  · refine rk_new C (hc_J19 H) in_J19 tyJ19_ok q1401 q359 q126 (fs := [.null, .null, .null, .null, .null, .int 0]) rfl (fun j hj => zdf_J19 j hj) dX1_requireIndex_11 (fun v11 => ?_)
    refine rk_of (fun _ _ _ _ _ k => lv_dup hx hb dX1_requireIndex_14 (va_rf_cat _) k) ?_
    refine rk_callV hX (cl_I (rest := [va_rf (some v11)]) C (ct_J19_init_2 H (some v11)) (lw_meth q1404) q126 q1402 q1403 rfl hd_J19_init_2 ⟨(Nat.le_of_ble_eq_true rfl), (Nat.le_of_ble_eq_true rfl)⟩ rfl hl.1 rfl (zw_le (zw_R zw_nil) (Nat.le_of_ble_eq_true rfl)) dX1_requireIndex_15) (fun _ => ?_)
    exact rk_ath H C hX dX1_requireIndex_18
  · exact rk_top (rf_vret C dX1_requireIndex_19)
theorem hd_X1_requireBox : yX1_requireBox.cls ≠ "java/lang/invoke/MethodHandle" ∧ yX1_requireBox.cls ≠ "java/lang/invoke/VarHandle" ∧ (parseMethodDescriptor yX1_requireBox.desc).map (fun d => d.parameters.length) = some 1 := by decide +kernel
noncomputable def fn_X1_requireBox (K : zm_K) (a0 : zm_R) (a1 : Int32) : zm_M Unit :=
  zm_bnd (zm_getR a0 18 0) fun v2 =>
  zm_bnd (zm_bnd (zm_is v2 19) fun _ => fn_X2_boxes K v2) fun v5 =>
  zm_bnd (fn_X1_requireIndex K a1 v5) fun _ =>
  zm_ret ()
theorem ct_X1_requireBox {l : Launch} {Ω : zm_W} {K : zm_K} (H : zm_H Ω K) (a0 : zm_R) (a1 : Int32) : zm_Ct l Ω yX1_requireBox (ws_ yX1_requireBox cX1_requireBox 2 (Option.none : Option Jvm.ClassFile.FieldType)) 9 229 [va_rf a0, .int a1] zm_tvV (fn_X1_requireBox K a0 a1) := by
  refine zm_ct H.1 (by decide +kernel) (zl_le (zl_R (zl_I zl_nil)) (Nat.le_of_ble_eq_true rfl)) ?_
  intro p e R s m args below meth c n0 k0 C hX ls hl
  have hx := C.1
  have hb := C.2.1
  simp only [zg_I, zg_R, zg_nil] at hl
  have hl : lv_has ls 2 [(0, va_rf a0), (1, .int a1)] := hl
  refine rk_rf ?_
  unfold fn_X1_requireBox
  refine rk_of (fun _ _ _ _ _ k => lv_iload_n hx hb dX1_requireBox_0 rfl (lv_at hl 1 rfl) (lr_aload_n hx hb dX1_requireBox_1 rfl (lv_at hl 0 rfl) k)) ?_
  refine rk_get zm_rdR_eq C (hc_X1 H) (k := 0) (Nat.le_of_ble_eq_true rfl) in_X1 q271 (fun _ h => h) dX1_requireBox_2 (fun v2 => ?_)
  refine rk_callI hX (cl_V (rest := [.int a1]) (av := []) C (hc_X2 H) (ct_X2_boxes H v2) (lw_V q1397 q1087 q1088 q102 q1089) ⟨rfl, hd_X2_boxes⟩ ⟨(Nat.le_of_ble_eq_true rfl), (Nat.le_of_ble_eq_true rfl)⟩ rfl hl.1 rfl (zw_le (zw_I zw_nil) (Nat.le_of_ble_eq_true rfl)) dX1_requireBox_5) (fun v5 => ?_)
  refine rk_callV hX (cl_S (rest := []) C (ct_X1_requireIndex H a1 v5) (lw_S q1398 q1399 q101 q1400) hd_X1_requireIndex ⟨(Nat.le_of_ble_eq_true rfl), (Nat.le_of_ble_eq_true rfl)⟩ rfl hl.1 rfl (zw_le zw_nil (Nat.le_of_ble_eq_true rfl)) dX1_requireBox_8) (fun _ => ?_)
  exact rk_top (rf_vret C dX1_requireBox_11)
theorem hd_X1_requireSpan : yX1_requireSpan.cls ≠ "java/lang/invoke/MethodHandle" ∧ yX1_requireSpan.cls ≠ "java/lang/invoke/VarHandle" ∧ (parseMethodDescriptor yX1_requireSpan.desc).map (fun d => d.parameters.length) = some 3 := by decide +kernel
noncomputable def fn_X1_requireSpan (K : zm_K) (a0 : Int32) (a1 : Int32) (a2 : Int32) : zm_M Unit :=
  zm_bnd (fn_X1_isIn K a0 1 8) fun v4 =>
  zm_bnd (α := Int32) (
      if v4 = 0 then
        zm_ret 0
      else
        zm_bnd (fn_X1_isSpan K a1 a2) fun v12 =>
        if v12 = 0 then
          zm_ret 0
        else
          zm_ret 1
    ) fun b23 =>
  zm_bnd (fn_X1_require K b23) fun _ =>
  zm_ret ()
theorem ct_X1_requireSpan {l : Launch} {Ω : zm_W} {K : zm_K} (H : zm_H Ω K) (a0 : Int32) (a1 : Int32) (a2 : Int32) : zm_Ct l Ω yX1_requireSpan (ws_ yX1_requireSpan cX1_requireSpan 3 (Option.none : Option Jvm.ClassFile.FieldType)) 9 228 [.int a0, .int a1, .int a2] zm_tvV (fn_X1_requireSpan K a0 a1 a2) := by
  refine zm_ct H.1 (by decide +kernel) (zl_le (zl_I (zl_I (zl_I zl_nil))) (Nat.le_of_ble_eq_true rfl)) ?_
  intro p e R s m args below meth c n0 k0 C hX ls hl
  have hx := C.1
  have hb := C.2.1
  simp only [zg_I, zg_nil] at hl
  have hl : lv_has ls 3 [(0, .int a0), (1, .int a1), (2, .int a2)] := hl
  refine rk_rf ?_
  unfold fn_X1_requireSpan
  refine rk_of (fun _ _ _ _ _ k => lv_iload_n hx hb dX1_requireSpan_0 rfl (lv_at hl 0 rfl) (lv_iconst (v := 1) hx hb dX1_requireSpan_1 rfl (lv_bipush (v := 8) hx hb dX1_requireSpan_2 rfl k))) ?_
  refine rk_callI hX (cl_S (rest := []) C (ct_X1_isIn H a0 1 8) (lw_S q1132 q1133 q101 q1134) hd_X1_isIn ⟨(Nat.le_of_ble_eq_true rfl), (Nat.le_of_ble_eq_true rfl)⟩ rfl hl.1 rfl (zw_le zw_nil (Nat.le_of_ble_eq_true rfl)) dX1_requireSpan_4) (fun v4 => ?_)
  refine rk_join (β := Int32) (fun (b23 : Int32) ls => lv_has ls 3 []) (fun (b23 : Int32) ls => F0 m 23 ls [.int b23]) (fun b23 ls hl => ?_) (fun hJ23 => ?_)
  · refine rk_callV hX (cl_S (rest := []) C (ct_X1_require H b23) (lw_S q1135 q1136 q101 q1137) hd_X1_require ⟨(Nat.le_of_ble_eq_true rfl), (Nat.le_of_ble_eq_true rfl)⟩ rfl hl.1 rfl (zw_le zw_nil (Nat.le_of_ble_eq_true rfl)) dX1_requireSpan_23) (fun _ => ?_)
    exact rk_top (rf_vret C dX1_requireSpan_26)
  · refine rk_ite (fun _ _ _ _ _ k1 k2 => lv_if_eq (tgt := 22) hx hb dX1_requireSpan_7 (by decide) k1 k2) (fun c_7 => ?_) (fun c_7 => ?_)
    · refine rk_of (fun _ _ _ _ _ k => lv_iconst (v := 0) hx hb dX1_requireSpan_22 rfl k) ?_
      exact hJ23 0 ls (lv_sub hl [] rfl)
    · refine rk_of (fun _ _ _ _ _ k => lv_iload_n hx hb dX1_requireSpan_10 rfl (lv_at hl 1 rfl) (lv_iload_n hx hb dX1_requireSpan_11 rfl (lv_at hl 2 rfl) k)) ?_
      refine rk_callI hX (cl_S (rest := []) C (ct_X1_isSpan H a1 a2) (lw_S q1409 q1410 q101 q1411) hd_X1_isSpan ⟨(Nat.le_of_ble_eq_true rfl), (Nat.le_of_ble_eq_true rfl)⟩ rfl hl.1 rfl (zw_le zw_nil (Nat.le_of_ble_eq_true rfl)) dX1_requireSpan_12) (fun v12 => ?_)
      refine rk_ite (fun _ _ _ _ _ k1 k2 => lv_if_eq (tgt := 22) hx hb dX1_requireSpan_15 (by decide) k1 k2) (fun c_15 => ?_) (fun c_15 => ?_)
      · refine rk_of (fun _ _ _ _ _ k => lv_iconst (v := 0) hx hb dX1_requireSpan_22 rfl k) ?_
        exact hJ23 0 ls (lv_sub hl [] rfl)
      · refine rk_of (fun _ _ _ _ _ k => lv_iconst (v := 1) hx hb dX1_requireSpan_18 rfl (lv_goto (tgt := 23) hx hb dX1_requireSpan_19 (by decide) k)) ?_
        exact hJ23 1 ls (lv_sub hl [] rfl)
theorem hd_X1_let : yX1_let.cls ≠ "java/lang/invoke/MethodHandle" ∧ yX1_let.cls ≠ "java/lang/invoke/VarHandle" ∧ (parseMethodDescriptor yX1_let.desc).map (fun d => d.parameters.length) = some 4 := by decide +kernel
noncomputable def fn_X1_let (K : zm_K) (a0 : zm_R) (a1 : Int32) (a2 : Int32) (a3 : Int32) (a4 : Int32) : zm_M Int32 :=
  zm_bnd (zm_bnd (zm_is a0 18) fun _ => fn_X1_requireBox K a0 a1) fun _ =>
  zm_bnd (fn_X1_requireSpan K a2 a3 a4) fun _ =>
  zm_bnd (zm_new 22 [.int 0, .int 0]) fun v12 =>
  zm_bnd (fn_X5_init K (some v12) a3 a4) fun _ =>
  zm_bnd (zm_new 101 [.int a1, .int a2, va_rf (some v12)]) fun v29 =>
  zm_bnd (zm_bnd (zm_is a0 18) fun _ => fn_X1_changed K a0 (some v29)) fun v34 =>
  zm_ret v34
theorem ct_X1_let {l : Launch} {Ω : zm_W} {K : zm_K} (H : zm_H Ω K) (a0 : zm_R) (a1 : Int32) (a2 : Int32) (a3 : Int32) (a4 : Int32) : zm_Ct l Ω yX1_let (ws_ yX1_let cX1_let 6 (Option.some Jvm.ClassFile.FieldType.int)) 22 3200 [va_rf a0, .int a1, .int a2, .int a3, .int a4] zm_tvI (fn_X1_let K a0 a1 a2 a3 a4) := by
  refine zm_ctN H.1 (by decide +kernel) (zl_le (zl_R (zl_I (zl_I (zl_I (zl_I zl_nil))))) (Nat.le_of_ble_eq_true rfl)) ?_
  intro p e R s m args below meth c n0 k0 C hX hN ls hl
  have hx := C.1
  have hb := C.2.1
  simp only [zg_I, zg_R, zg_nil] at hl
  have hl : lv_has ls 6 [(0, va_rf a0), (1, .int a1), (2, .int a2), (3, .int a3), (4, .int a4)] := hl
  refine rk_rf ?_
  unfold fn_X1_let
  refine rk_of (fun _ _ _ _ _ k => lr_aload_n hx hb dX1_let_0 rfl (lv_at hl 0 rfl) (lv_iload_n hx hb dX1_let_1 rfl (lv_at hl 1 rfl) k)) ?_
  refine rk_callV hX (cl_V (rest := []) (av := [.int a1]) C (hc_X1 H) (ct_X1_requireBox H a0 a1) (lw_V q1393 q1395 qs15 q101 q1396) ⟨rfl, hd_X1_requireBox⟩ ⟨(Nat.le_of_ble_eq_true rfl), (Nat.le_of_ble_eq_true rfl)⟩ rfl hl.1 rfl (zw_le zw_nil (Nat.le_of_ble_eq_true rfl)) dX1_let_2) (fun _ => ?_)
  refine rk_of (fun _ _ _ _ _ k => lv_iload_n hx hb dX1_let_5 rfl (lv_at hl 2 rfl) (lv_iload_n hx hb dX1_let_6 rfl (lv_at hl 3 rfl) (lv_iload hx hb dX1_let_7 (lv_at hl 4 rfl) k))) ?_
  refine rk_callV hX (cl_S (rest := []) C (ct_X1_requireSpan H a2 a3 a4) (lw_S q1406 q1407 q101 q1408) hd_X1_requireSpan ⟨(Nat.le_of_ble_eq_true rfl), (Nat.le_of_ble_eq_true rfl)⟩ rfl hl.1 rfl (zw_le zw_nil (Nat.le_of_ble_eq_true rfl)) dX1_let_9) (fun _ => ?_)
  refine rk_new C (hc_X5 H) in_X5 tyX5_ok q1412 q808 q135 (fs := [.int 0, .int 0]) rfl (fun j hj => zdf_X5 j hj) dX1_let_12 (fun v12 => ?_)
  refine rk_of (fun _ _ _ _ _ k => lv_dup hx hb dX1_let_15 (va_rf_cat _) (lv_iload_n hx hb dX1_let_16 rfl (lv_at hl 3 rfl) (lv_iload hx hb dX1_let_17 (lv_at hl 4 rfl) k))) ?_
  refine rk_callV hX (cl_I (rest := [va_rf (some v12)]) C (ct_X5_init H (some v12) a3 a4) (lw_meth q820) q135 q1413 q819 rfl hd_X5_init ⟨(Nat.le_of_ble_eq_true rfl), (Nat.le_of_ble_eq_true rfl)⟩ rfl hl.1 rfl (zw_le (zw_R zw_nil) (Nat.le_of_ble_eq_true rfl)) dX1_let_19) (fun _ => ?_)
  refine rk_ofs (fun _ _ _ _ _ k => lr_astore hx hb dX1_let_22 hl (Nat.le_of_ble_eq_true rfl) [0, 1, 2] rfl ⟨trivial, ⟨trivial, ⟨trivial, trivial⟩⟩⟩ k) (fun ls hl => ?_)
  refine rk_of (fun _ _ _ _ _ k => lr_aload_n hx hb dX1_let_24 rfl (lv_at hl 1 rfl) (lv_iload_n hx hb dX1_let_25 rfl (lv_at hl 2 rfl) (lv_iload_n hx hb dX1_let_26 rfl (lv_at hl 3 rfl) (lr_aload hx hb dX1_let_27 (lv_at hl 0 rfl) k)))) ?_
  refine rk_lam H C hN (i := 1) rfl (by decide) zk_ok1 (zh_O H) (vals := [.int a1, .int a2, va_rf (some v12)]) (rest := [va_rf a0]) rfl (zk_cons rfl (zk_cons rfl (zk_cons (zn_R rfl _) zk_nil))) (zf_cons rfl (zf_cons rfl (zf_cons (zp_R rfl _) zf_nil))) hl.1 rfl (zw_ad (zw_R (zw_I (zw_I (zw_R zw_nil)))) (Nat.le_of_ble_eq_true rfl)) dX1_let_29 (fun v29 => ?_)
  refine rk_callI hX (cl_VX (rest := []) (av := [va_rf (some v29)]) C (hc_X1 H) (ct_X1_changed H a0 (some v29)) (lw_VW q1262 q1264 qs12 q101 q1265) ⟨rfl, hd_X1_changed⟩ ⟨(Nat.le_of_ble_eq_true rfl), (Nat.le_of_ble_eq_true rfl)⟩ rfl hl.1 rfl (zw_le zw_nil (Nat.le_of_ble_eq_true rfl)) dX1_let_34) (fun v34 => ?_)
  exact rk_top (rf_iret C rfl dX1_let_37)
theorem hd_X0_let : yX0_let.cls ≠ "java/lang/invoke/MethodHandle" ∧ yX0_let.cls ≠ "java/lang/invoke/VarHandle" ∧ (parseMethodDescriptor yX0_let.desc).map (fun d => d.parameters.length) = some 6 := by decide +kernel
noncomputable def fn_X0_let (K : zm_K) (a0 : zm_R) (a1 : Int32) (a2 : Int32) (a3 : Int32) (a4 : Int32) (a5 : zm_R) : zm_M Int32 :=
  zm_cth (zm_bnd (zm_is a0 18) fun _ => fn_X1_let K a0 a1 a2 a3 a4) (fun (E9 : String) (q9 : Nat) =>
      if E9 ∈ (["java/lang/IndexOutOfBoundsException", "java/lang/ArrayIndexOutOfBoundsException", "java/lang/StringIndexOutOfBoundsException"] : List String) then
        zm_ret 1
      else
        if E9 ∈ (["java/lang/IllegalArgumentException"] : List String) then
          zm_ret 2
        else
          if E9 ∈ (["java/lang/UnsupportedOperationException"] : List String) then
            zm_ret 3
          else
            if E9 ∈ (["java/util/NoSuchElementException", "java/lang/IllegalStateException", "java/lang/ArithmeticException", "BoxSpans$Refusal", "BoxSpans$TextError"] : List String) then
              zm_thr E9 q9
            else
              zm_fl
    ) fun v9 =>
  zm_bnd (zm_astJ K a5 0 ((v9).toInt64)) fun _ =>
  zm_ret 0
theorem ct_X0_let {l : Launch} {Ω : zm_W} {K : zm_K} (H : zm_H Ω K) (a0 : zm_R) (a1 : Int32) (a2 : Int32) (a3 : Int32) (a4 : Int32) (a5 : zm_R) : zm_Ct l Ω yX0_let (wsW_ yX0_let cX0_let 7 (Option.some Jvm.ClassFile.FieldType.int) [(0, 14, 17, 21), (0, 14, 21, 13), (0, 14, 25, 15)]) 23 3225 [va_rf a0, .int a1, .int a2, .int a3, .int a4, va_rf a5] zm_tvI (fn_X0_let K a0 a1 a2 a3 a4 a5) := by
  refine zm_ctW H.1 (by decide +kernel) (zl_le (zl_R (zl_I (zl_I (zl_I (zl_I (zl_R zl_nil)))))) (Nat.le_of_ble_eq_true rfl)) ?_
  intro p e R s m args below meth c n0 k0 C hN hT ls hl
  have hx := C.1
  have hb := C.2.1
  simp only [zg_I, zg_R, zg_nil] at hl
  have hl : lv_has ls 7 [(0, va_rf a0), (1, .int a1), (2, .int a2), (3, .int a3), (4, .int a4), (5, va_rf a5)] := hl
  refine rk_rf ?_
  unfold fn_X0_let
  refine rk_of (fun _ _ _ _ _ k => lr_aload hx hb dX0_let_0 (lv_at hl 5 rfl) (lv_iconst (v := 0) hx hb dX0_let_2 rfl (lr_aload_n hx hb dX0_let_3 rfl (lv_at hl 0 rfl) (lv_iload_n hx hb dX0_let_4 rfl (lv_at hl 1 rfl) (lv_iload_n hx hb dX0_let_5 rfl (lv_at hl 2 rfl) (lv_iload_n hx hb dX0_let_6 rfl (lv_at hl 3 rfl) (lv_iload hx hb dX0_let_7 (lv_at hl 4 rfl) k))))))) ?_
  refine rk_cthI (cl_V (rest := [.int 0, va_rf a5]) (av := [.int a1, .int a2, .int a3, .int a4]) C (hc_X1 H) (ct_X1_let H a0 a1 a2 a3 a4) (lw_V q1389 q1390 q1391 q101 q1392) ⟨rfl, hd_X1_let⟩ ⟨(Nat.le_of_ble_eq_true rfl), (Nat.le_of_ble_eq_true rfl)⟩ rfl hl.1 rfl (zw_le (zw_I (zw_R zw_nil)) (Nat.le_of_ble_eq_true rfl)) dX0_let_9) (fun E9 q9 => ?_) (fun v9 => ?_)
  · refine rx_ite (fun h9_0 => ?_) (fun h9_0 => ?_)
    · refine rx_cat (k := 0) C hT rfl zp_nil ⟨by decide, by decide⟩ (by decide) q1373 ((zp_cons (P := fun E => (Cond.castable E "java/lang/IndexOutOfBoundsException").before args s = true) (zn_wC H C q360) (zp_cons (P := fun E => (Cond.castable E "java/lang/IndexOutOfBoundsException").before args s = true) (zn_wC H C q3093) (zp_cons (P := fun E => (Cond.castable E "java/lang/IndexOutOfBoundsException").before args s = true) (zn_wC H C q3094) zp_nil))) E9 h9_0) ?_
      refine rk_ofs (fun _ _ _ _ _ k => lr_astore hx hb dX0_let_17 hl (Nat.le_of_ble_eq_true rfl) [] rfl trivial k) (fun ls hl => ?_)
      refine rk_of (fun _ _ _ _ _ k => lv_iconst (v := 1) hx hb dX0_let_19 rfl k) ?_
      exact rk_top (rf_iret C rfl dX0_let_20)
    · refine rx_ite (fun h9_1 => ?_) (fun h9_1 => ?_)
      · refine rx_cat (k := 1) C hT rfl (zp_cons (Or.inr ⟨by decide, _, q1373, zh_ncs H C (L := ["java/lang/IllegalArgumentException"]) (by decide) h9_1⟩) zp_nil) ⟨by decide, by decide⟩ (by decide) q1126 ((zp_cons (P := fun E => (Cond.castable E "java/lang/IllegalArgumentException").before args s = true) (zn_wC H C q597) zp_nil) E9 h9_1) ?_
        refine rk_ofs (fun _ _ _ _ _ k => lr_astore hx hb dX0_let_21 hl (Nat.le_of_ble_eq_true rfl) [] rfl trivial k) (fun ls hl => ?_)
        refine rk_of (fun _ _ _ _ _ k => lv_iconst (v := 2) hx hb dX0_let_23 rfl k) ?_
        exact rk_top (rf_iret C rfl dX0_let_24)
      · refine rx_ite (fun h9_2 => ?_) (fun h9_2 => ?_)
        · refine rx_cat (k := 2) C hT rfl (zp_cons (Or.inr ⟨by decide, _, q1373, zh_ncs H C (L := ["java/lang/UnsupportedOperationException"]) (by decide) h9_2⟩) (zp_cons (Or.inr ⟨by decide, _, q1126, zh_ncs H C (L := ["java/lang/UnsupportedOperationException"]) (by decide) h9_2⟩) zp_nil)) ⟨by decide, by decide⟩ (by decide) q1127 ((zp_cons (P := fun E => (Cond.castable E "java/lang/UnsupportedOperationException").before args s = true) (zn_wC H C q1357) zp_nil) E9 h9_2) ?_
          refine rk_ofs (fun _ _ _ _ _ k => lr_astore hx hb dX0_let_25 hl (Nat.le_of_ble_eq_true rfl) [] rfl trivial k) (fun ls hl => ?_)
          refine rk_of (fun _ _ _ _ _ k => lv_iconst (v := 3) hx hb dX0_let_27 rfl k) ?_
          exact rk_top (rf_iret C rfl dX0_let_28)
        · refine rx_ite (fun h9_x => ?_) (fun _ => rx_fl)
          exact rx_out C hT (zp_cons (Or.inr ⟨by decide, _, q1373, zh_ncs H C (L := ["java/util/NoSuchElementException", "java/lang/IllegalStateException", "java/lang/ArithmeticException", "BoxSpans$Refusal", "BoxSpans$TextError"]) (by decide) h9_x⟩) (zp_cons (Or.inr ⟨by decide, _, q1126, zh_ncs H C (L := ["java/util/NoSuchElementException", "java/lang/IllegalStateException", "java/lang/ArithmeticException", "BoxSpans$Refusal", "BoxSpans$TextError"]) (by decide) h9_x⟩) (zp_cons (Or.inr ⟨by decide, _, q1127, zh_ncs H C (L := ["java/util/NoSuchElementException", "java/lang/IllegalStateException", "java/lang/ArithmeticException", "BoxSpans$Refusal", "BoxSpans$TextError"]) (by decide) h9_x⟩) zp_nil)))
  refine rk_of (fun _ _ _ _ _ k => lv_i2l hx hb dX0_let_12 rfl k) ?_
  refine rk_last C H.2.2.1 dX0_let_13 ?_
  refine rk_of (fun _ _ _ _ _ k => lv_goto (tgt := 29) hx hb dX0_let_14 (by decide) (lv_iconst (v := 0) hx hb dX0_let_29 rfl k)) ?_
  exact rk_top (rf_iret C rfl dX0_let_30)
theorem hd_X1_lettingAt : yX1_lettingAt.cls ≠ "java/lang/invoke/MethodHandle" ∧ yX1_lettingAt.cls ≠ "java/lang/invoke/VarHandle" ∧ (parseMethodDescriptor yX1_lettingAt.desc).map (fun d => d.parameters.length) = some 1 := by decide +kernel
noncomputable def fn_X1_lettingAt (K : zm_K) (a0 : zm_R) (a1 : Int32) : zm_M zm_R :=
  zm_bnd (zm_getR a0 18 0) fun v2 =>
  zm_bnd (zm_bnd (zm_is v2 19) fun _ => fn_X2_lettings K v2) fun v5 =>
  zm_bnd (zm_bnd (zm_cls v5) fun ci => if ci = 0 then fn_J2_size K v5 else if ci = 1 then fn_J4_size K v5 else zm_fl) fun v8 =>
  zm_bnd (fn_X1_requireIndex K a1 v8) fun _ =>
  zm_bnd (zm_getR a0 18 0) fun v17 =>
  zm_bnd (zm_bnd (zm_is v17 19) fun _ => fn_X2_letting K v17 a1) fun v21 =>
  zm_ret v21
theorem ct_X1_lettingAt {l : Launch} {Ω : zm_W} {K : zm_K} (H : zm_H Ω K) (a0 : zm_R) (a1 : Int32) : zm_Ct l Ω yX1_lettingAt (ws_ yX1_lettingAt cX1_lettingAt 2 (Option.some (Jvm.ClassFile.FieldType.object "BoxSpans$Letting"))) 11 275 [va_rf a0, .int a1] zm_tvR (fn_X1_lettingAt K a0 a1) := by
  refine zm_ct H.1 (by decide +kernel) (zl_le (zl_R (zl_I zl_nil)) (Nat.le_of_ble_eq_true rfl)) ?_
  intro p e R s m args below meth c n0 k0 C hX ls hl
  have hx := C.1
  have hb := C.2.1
  simp only [zg_I, zg_R, zg_nil] at hl
  have hl : lv_has ls 2 [(0, va_rf a0), (1, .int a1)] := hl
  refine rk_rf ?_
  unfold fn_X1_lettingAt
  refine rk_of (fun _ _ _ _ _ k => lv_iload_n hx hb dX1_lettingAt_0 rfl (lv_at hl 1 rfl) (lr_aload_n hx hb dX1_lettingAt_1 rfl (lv_at hl 0 rfl) k)) ?_
  refine rk_get zm_rdR_eq C (hc_X1 H) (k := 0) (Nat.le_of_ble_eq_true rfl) in_X1 q271 (fun _ h => h) dX1_lettingAt_2 (fun v2 => ?_)
  refine rk_callR hX (cl_V (rest := [.int a1]) (av := []) C (hc_X2 H) (ct_X2_lettings H v2) (lw_V q1457 q1458 q1459 q102 q1460) ⟨rfl, hd_X2_lettings⟩ ⟨(Nat.le_of_ble_eq_true rfl), (Nat.le_of_ble_eq_true rfl)⟩ rfl hl.1 rfl (zw_le (zw_I zw_nil) (Nat.le_of_ble_eq_true rfl)) dX1_lettingAt_5) (fun v5 => ?_)
  refine rk_callI hX (cl_dsp (fun ci => cl_case (cl_F (n := 0) (rest := [.int a1]) (av := []) C (hc_J2 H) (ct_J2_size H v5) (lw_F q1462 q1057 q752 q105 q753) (zh_Fw H C (by decide) q1056 q1055 q1059 q1058 q309) (by decide +kernel) ⟨(Nat.le_of_ble_eq_true rfl), (Nat.le_of_ble_eq_true rfl)⟩ rfl hl.1 rfl (zw_le (zw_I zw_nil) (Nat.le_of_ble_eq_true rfl)) dX1_lettingAt_8) (cl_case (cl_F (n := 0) (rest := [.int a1]) (av := []) C (hc_J4 H) (ct_J4_size H v5) (lw_F q1462 q1060 q755 q107 q756) (zh_Fw H C (by decide) q1056 q1055 q1062 q1061 q336) (by decide +kernel) ⟨(Nat.le_of_ble_eq_true rfl), (Nat.le_of_ble_eq_true rfl)⟩ rfl hl.1 rfl (zw_le (zw_I zw_nil) (Nat.le_of_ble_eq_true rfl)) dX1_lettingAt_8) (cl_fl)))) (fun v8 => ?_)
  refine rk_callV hX (cl_S (rest := []) C (ct_X1_requireIndex H a1 v8) (lw_S q1398 q1399 q101 q1400) hd_X1_requireIndex ⟨(Nat.le_of_ble_eq_true rfl), (Nat.le_of_ble_eq_true rfl)⟩ rfl hl.1 rfl (zw_le zw_nil (Nat.le_of_ble_eq_true rfl)) dX1_lettingAt_13) (fun _ => ?_)
  refine rk_of (fun _ _ _ _ _ k => lr_aload_n hx hb dX1_lettingAt_16 rfl (lv_at hl 0 rfl) k) ?_
  refine rk_get zm_rdR_eq C (hc_X1 H) (k := 0) (Nat.le_of_ble_eq_true rfl) in_X1 q271 (fun _ h => h) dX1_lettingAt_17 (fun v17 => ?_)
  refine rk_of (fun _ _ _ _ _ k => lv_iload_n hx hb dX1_lettingAt_20 rfl (lv_at hl 1 rfl) k) ?_
  refine rk_callR hX (cl_V (rest := []) (av := [.int a1]) C (hc_X2 H) (ct_X2_letting H v17 a1) (lw_V q1463 q1091 q1092 q102 q1093) ⟨rfl, hd_X2_letting⟩ ⟨(Nat.le_of_ble_eq_true rfl), (Nat.le_of_ble_eq_true rfl)⟩ rfl hl.1 rfl (zw_le zw_nil (Nat.le_of_ble_eq_true rfl)) dX1_lettingAt_21) (fun v21 => ?_)
  exact rk_top (rf_aret C (Or.inl ⟨_, rfl⟩) dX1_lettingAt_24)
theorem hd_X1_cancel : yX1_cancel.cls ≠ "java/lang/invoke/MethodHandle" ∧ yX1_cancel.cls ≠ "java/lang/invoke/VarHandle" ∧ (parseMethodDescriptor yX1_cancel.desc).map (fun d => d.parameters.length) = some 1 := by decide +kernel
noncomputable def fn_X1_cancel (K : zm_K) (a0 : zm_R) (a1 : Int32) : zm_M Int32 :=
  zm_bnd (zm_bnd (zm_is a0 18) fun _ => fn_X1_lettingAt K a0 a1) fun v2 =>
  zm_bnd (zm_new 102 [.int a1]) fun v8 =>
  zm_bnd (zm_bnd (zm_is a0 18) fun _ => fn_X1_changed K a0 (some v8)) fun v13 =>
  zm_ret v13
theorem ct_X1_cancel {l : Launch} {Ω : zm_W} {K : zm_K} (H : zm_H Ω K) (a0 : zm_R) (a1 : Int32) : zm_Ct l Ω yX1_cancel (ws_ yX1_cancel cX1_cancel 2 (Option.some Jvm.ClassFile.FieldType.int)) 22 3200 [va_rf a0, .int a1] zm_tvI (fn_X1_cancel K a0 a1) := by
  refine zm_ctN H.1 (by decide +kernel) (zl_le (zl_R (zl_I zl_nil)) (Nat.le_of_ble_eq_true rfl)) ?_
  intro p e R s m args below meth c n0 k0 C hX hN ls hl
  have hx := C.1
  have hb := C.2.1
  simp only [zg_I, zg_R, zg_nil] at hl
  have hl : lv_has ls 2 [(0, va_rf a0), (1, .int a1)] := hl
  refine rk_rf ?_
  unfold fn_X1_cancel
  refine rk_of (fun _ _ _ _ _ k => lr_aload_n hx hb dX1_cancel_0 rfl (lv_at hl 0 rfl) (lv_iload_n hx hb dX1_cancel_1 rfl (lv_at hl 1 rfl) k)) ?_
  refine rk_callR hX (cl_V (rest := []) (av := [.int a1]) C (hc_X1 H) (ct_X1_lettingAt H a0 a1) (lw_V q1453 q1455 qs19 q101 q1456) ⟨rfl, hd_X1_lettingAt⟩ ⟨(Nat.le_of_ble_eq_true rfl), (Nat.le_of_ble_eq_true rfl)⟩ rfl hl.1 rfl (zw_le zw_nil (Nat.le_of_ble_eq_true rfl)) dX1_cancel_2) (fun v2 => ?_)
  refine rk_of (fun _ _ _ _ _ k => lv_pop hx hb dX1_cancel_5 (va_rf_cat _) (lr_aload_n hx hb dX1_cancel_6 rfl (lv_at hl 0 rfl) (lv_iload_n hx hb dX1_cancel_7 rfl (lv_at hl 1 rfl) k))) ?_
  refine rk_lam H C hN (i := 2) rfl (by decide) zk_ok2 (zh_O H) (vals := [.int a1]) (rest := [va_rf a0]) rfl (zk_cons rfl zk_nil) (zf_cons rfl zf_nil) hl.1 rfl (zw_ad (zw_I (zw_R zw_nil)) (Nat.le_of_ble_eq_true rfl)) dX1_cancel_8 (fun v8 => ?_)
  refine rk_callI hX (cl_VX (rest := []) (av := [va_rf (some v8)]) C (hc_X1 H) (ct_X1_changed H a0 (some v8)) (lw_VW q1262 q1264 qs12 q101 q1265) ⟨rfl, hd_X1_changed⟩ ⟨(Nat.le_of_ble_eq_true rfl), (Nat.le_of_ble_eq_true rfl)⟩ rfl hl.1 rfl (zw_le zw_nil (Nat.le_of_ble_eq_true rfl)) dX1_cancel_13) (fun v13 => ?_)
  exact rk_top (rf_iret C rfl dX1_cancel_16)
theorem hd_X0_cancel : yX0_cancel.cls ≠ "java/lang/invoke/MethodHandle" ∧ yX0_cancel.cls ≠ "java/lang/invoke/VarHandle" ∧ (parseMethodDescriptor yX0_cancel.desc).map (fun d => d.parameters.length) = some 3 := by decide +kernel
noncomputable def fn_X0_cancel (K : zm_K) (a0 : zm_R) (a1 : Int32) (a2 : zm_R) : zm_M Int32 :=
  zm_cth (zm_bnd (zm_is a0 18) fun _ => fn_X1_cancel K a0 a1) (fun (E4 : String) (q4 : Nat) =>
      if E4 ∈ (["java/lang/IndexOutOfBoundsException", "java/lang/ArrayIndexOutOfBoundsException", "java/lang/StringIndexOutOfBoundsException"] : List String) then
        zm_ret 1
      else
        if E4 ∈ (["java/lang/UnsupportedOperationException"] : List String) then
          zm_ret 2
        else
          if E4 ∈ (["java/lang/IllegalArgumentException", "java/util/NoSuchElementException", "java/lang/IllegalStateException", "java/lang/ArithmeticException", "BoxSpans$Refusal", "BoxSpans$TextError"] : List String) then
            zm_thr E4 q4
          else
            zm_fl
    ) fun v4 =>
  zm_bnd (zm_astJ K a2 0 ((v4).toInt64)) fun _ =>
  zm_ret 0
theorem ct_X0_cancel {l : Launch} {Ω : zm_W} {K : zm_K} (H : zm_H Ω K) (a0 : zm_R) (a1 : Int32) (a2 : zm_R) : zm_Ct l Ω yX0_cancel (wsW_ yX0_cancel cX0_cancel 4 (Option.some Jvm.ClassFile.FieldType.int) [(0, 9, 12, 21), (0, 9, 15, 15)]) 23 3221 [va_rf a0, .int a1, va_rf a2] zm_tvI (fn_X0_cancel K a0 a1 a2) := by
  refine zm_ctW H.1 (by decide +kernel) (zl_le (zl_R (zl_I (zl_R zl_nil))) (Nat.le_of_ble_eq_true rfl)) ?_
  intro p e R s m args below meth c n0 k0 C hN hT ls hl
  have hx := C.1
  have hb := C.2.1
  simp only [zg_I, zg_R, zg_nil] at hl
  have hl : lv_has ls 4 [(0, va_rf a0), (1, .int a1), (2, va_rf a2)] := hl
  refine rk_rf ?_
  unfold fn_X0_cancel
  refine rk_of (fun _ _ _ _ _ k => lr_aload_n hx hb dX0_cancel_0 rfl (lv_at hl 2 rfl) (lv_iconst (v := 0) hx hb dX0_cancel_1 rfl (lr_aload_n hx hb dX0_cancel_2 rfl (lv_at hl 0 rfl) (lv_iload_n hx hb dX0_cancel_3 rfl (lv_at hl 1 rfl) k)))) ?_
  refine rk_cthI (cl_V (rest := [.int 0, va_rf a2]) (av := [.int a1]) C (hc_X1 H) (ct_X1_cancel H a0 a1) (lw_V q1449 q1450 q1451 q101 q1452) ⟨rfl, hd_X1_cancel⟩ ⟨(Nat.le_of_ble_eq_true rfl), (Nat.le_of_ble_eq_true rfl)⟩ rfl hl.1 rfl (zw_le (zw_I (zw_R zw_nil)) (Nat.le_of_ble_eq_true rfl)) dX0_cancel_4) (fun E4 q4 => ?_) (fun v4 => ?_)
  · refine rx_ite (fun h4_0 => ?_) (fun h4_0 => ?_)
    · refine rx_cat (k := 0) C hT rfl zp_nil ⟨by decide, by decide⟩ (by decide) q1373 ((zp_cons (P := fun E => (Cond.castable E "java/lang/IndexOutOfBoundsException").before args s = true) (zn_wC H C q360) (zp_cons (P := fun E => (Cond.castable E "java/lang/IndexOutOfBoundsException").before args s = true) (zn_wC H C q3093) (zp_cons (P := fun E => (Cond.castable E "java/lang/IndexOutOfBoundsException").before args s = true) (zn_wC H C q3094) zp_nil))) E4 h4_0) ?_
      refine rk_ofs (fun _ _ _ _ _ k => lr_astore_n hx hb dX0_cancel_12 rfl hl (Nat.le_of_ble_eq_true rfl) [] rfl trivial k) (fun ls hl => ?_)
      refine rk_of (fun _ _ _ _ _ k => lv_iconst (v := 1) hx hb dX0_cancel_13 rfl k) ?_
      exact rk_top (rf_iret C rfl dX0_cancel_14)
    · refine rx_ite (fun h4_1 => ?_) (fun h4_1 => ?_)
      · refine rx_cat (k := 1) C hT rfl (zp_cons (Or.inr ⟨by decide, _, q1373, zh_ncs H C (L := ["java/lang/UnsupportedOperationException"]) (by decide) h4_1⟩) zp_nil) ⟨by decide, by decide⟩ (by decide) q1127 ((zp_cons (P := fun E => (Cond.castable E "java/lang/UnsupportedOperationException").before args s = true) (zn_wC H C q1357) zp_nil) E4 h4_1) ?_
        refine rk_ofs (fun _ _ _ _ _ k => lr_astore_n hx hb dX0_cancel_15 rfl hl (Nat.le_of_ble_eq_true rfl) [] rfl trivial k) (fun ls hl => ?_)
        refine rk_of (fun _ _ _ _ _ k => lv_iconst (v := 2) hx hb dX0_cancel_16 rfl k) ?_
        exact rk_top (rf_iret C rfl dX0_cancel_17)
      · refine rx_ite (fun h4_x => ?_) (fun _ => rx_fl)
        exact rx_out C hT (zp_cons (Or.inr ⟨by decide, _, q1373, zh_ncs H C (L := ["java/lang/IllegalArgumentException", "java/util/NoSuchElementException", "java/lang/IllegalStateException", "java/lang/ArithmeticException", "BoxSpans$Refusal", "BoxSpans$TextError"]) (by decide) h4_x⟩) (zp_cons (Or.inr ⟨by decide, _, q1127, zh_ncs H C (L := ["java/lang/IllegalArgumentException", "java/util/NoSuchElementException", "java/lang/IllegalStateException", "java/lang/ArithmeticException", "BoxSpans$Refusal", "BoxSpans$TextError"]) (by decide) h4_x⟩) zp_nil))
  refine rk_of (fun _ _ _ _ _ k => lv_i2l hx hb dX0_cancel_7 rfl k) ?_
  refine rk_last C H.2.2.1 dX0_cancel_8 ?_
  refine rk_of (fun _ _ _ _ _ k => lv_goto (tgt := 18) hx hb dX0_cancel_9 (by decide) (lv_iconst (v := 0) hx hb dX0_cancel_18 rfl k)) ?_
  exact rk_top (rf_iret C rfl dX0_cancel_19)
theorem hd_X1_move : yX1_move.cls ≠ "java/lang/invoke/MethodHandle" ∧ yX1_move.cls ≠ "java/lang/invoke/VarHandle" ∧ (parseMethodDescriptor yX1_move.desc).map (fun d => d.parameters.length) = some 2 := by decide +kernel
noncomputable def fn_X1_move (K : zm_K) (a0 : zm_R) (a1 : Int32) (a2 : Int32) : zm_M Int32 :=
  zm_bnd (zm_bnd (zm_is a0 18) fun _ => fn_X1_lettingAt K a0 a1) fun v2 =>
  zm_bnd (fn_X1_isIn K a2 (-599) 599) fun v13 =>
  zm_bnd (fn_X1_require K v13) fun _ =>
  zm_bnd (zm_new 103 [.int a1, .int a2]) fun v22 =>
  zm_bnd (zm_bnd (zm_is a0 18) fun _ => fn_X1_changed K a0 (some v22)) fun v27 =>
  zm_ret v27
theorem ct_X1_move {l : Launch} {Ω : zm_W} {K : zm_K} (H : zm_H Ω K) (a0 : zm_R) (a1 : Int32) (a2 : Int32) : zm_Ct l Ω yX1_move (ws_ yX1_move cX1_move 3 (Option.some Jvm.ClassFile.FieldType.int)) 22 3200 [va_rf a0, .int a1, .int a2] zm_tvI (fn_X1_move K a0 a1 a2) := by
  refine zm_ctN H.1 (by decide +kernel) (zl_le (zl_R (zl_I (zl_I zl_nil))) (Nat.le_of_ble_eq_true rfl)) ?_
  intro p e R s m args below meth c n0 k0 C hX hN ls hl
  have hx := C.1
  have hb := C.2.1
  simp only [zg_I, zg_R, zg_nil] at hl
  have hl : lv_has ls 3 [(0, va_rf a0), (1, .int a1), (2, .int a2)] := hl
  refine rk_rf ?_
  unfold fn_X1_move
  refine rk_of (fun _ _ _ _ _ k => lr_aload_n hx hb dX1_move_0 rfl (lv_at hl 0 rfl) (lv_iload_n hx hb dX1_move_1 rfl (lv_at hl 1 rfl) k)) ?_
  refine rk_callR hX (cl_V (rest := []) (av := [.int a1]) C (hc_X1 H) (ct_X1_lettingAt H a0 a1) (lw_V q1453 q1455 qs19 q101 q1456) ⟨rfl, hd_X1_lettingAt⟩ ⟨(Nat.le_of_ble_eq_true rfl), (Nat.le_of_ble_eq_true rfl)⟩ rfl hl.1 rfl (zw_le zw_nil (Nat.le_of_ble_eq_true rfl)) dX1_move_2) (fun v2 => ?_)
  refine rk_of (fun _ _ _ _ _ k => lv_pop hx hb dX1_move_5 (va_rf_cat _) (lv_iload_n hx hb dX1_move_6 rfl (lv_at hl 2 rfl) (lv_sipush (v := (-599)) hx hb dX1_move_7 rfl (lv_sipush (v := 599) hx hb dX1_move_10 rfl k)))) ?_
  refine rk_callI hX (cl_S (rest := []) C (ct_X1_isIn H a2 (-599) 599) (lw_S q1132 q1133 q101 q1134) hd_X1_isIn ⟨(Nat.le_of_ble_eq_true rfl), (Nat.le_of_ble_eq_true rfl)⟩ rfl hl.1 rfl (zw_le zw_nil (Nat.le_of_ble_eq_true rfl)) dX1_move_13) (fun v13 => ?_)
  refine rk_callV hX (cl_S (rest := []) C (ct_X1_require H v13) (lw_S q1135 q1136 q101 q1137) hd_X1_require ⟨(Nat.le_of_ble_eq_true rfl), (Nat.le_of_ble_eq_true rfl)⟩ rfl hl.1 rfl (zw_le zw_nil (Nat.le_of_ble_eq_true rfl)) dX1_move_16) (fun _ => ?_)
  refine rk_of (fun _ _ _ _ _ k => lr_aload_n hx hb dX1_move_19 rfl (lv_at hl 0 rfl) (lv_iload_n hx hb dX1_move_20 rfl (lv_at hl 1 rfl) (lv_iload_n hx hb dX1_move_21 rfl (lv_at hl 2 rfl) k))) ?_
  refine rk_lam H C hN (i := 3) rfl (by decide) zk_ok3 (zh_O H) (vals := [.int a1, .int a2]) (rest := [va_rf a0]) rfl (zk_cons rfl (zk_cons rfl zk_nil)) (zf_cons rfl (zf_cons rfl zf_nil)) hl.1 rfl (zw_ad (zw_I (zw_I (zw_R zw_nil))) (Nat.le_of_ble_eq_true rfl)) dX1_move_22 (fun v22 => ?_)
  refine rk_callI hX (cl_VX (rest := []) (av := [va_rf (some v22)]) C (hc_X1 H) (ct_X1_changed H a0 (some v22)) (lw_VW q1262 q1264 qs12 q101 q1265) ⟨rfl, hd_X1_changed⟩ ⟨(Nat.le_of_ble_eq_true rfl), (Nat.le_of_ble_eq_true rfl)⟩ rfl hl.1 rfl (zw_le zw_nil (Nat.le_of_ble_eq_true rfl)) dX1_move_27) (fun v27 => ?_)
  exact rk_top (rf_iret C rfl dX1_move_30)
theorem hd_X0_move : yX0_move.cls ≠ "java/lang/invoke/MethodHandle" ∧ yX0_move.cls ≠ "java/lang/invoke/VarHandle" ∧ (parseMethodDescriptor yX0_move.desc).map (fun d => d.parameters.length) = some 4 := by decide +kernel
noncomputable def fn_X0_move (K : zm_K) (a0 : zm_R) (a1 : Int32) (a2 : Int32) (a3 : zm_R) : zm_M Int32 :=
  zm_cth (zm_bnd (zm_is a0 18) fun _ => fn_X1_move K a0 a1 a2) (fun (E5 : String) (q5 : Nat) =>
      if E5 ∈ (["java/lang/IndexOutOfBoundsException", "java/lang/ArrayIndexOutOfBoundsException", "java/lang/StringIndexOutOfBoundsException"] : List String) then
        zm_ret 1
      else
        if E5 ∈ (["java/lang/IllegalArgumentException"] : List String) then
          zm_ret 2
        else
          if E5 ∈ (["java/lang/UnsupportedOperationException"] : List String) then
            zm_ret 3
          else
            if E5 ∈ (["java/util/NoSuchElementException", "java/lang/IllegalStateException", "java/lang/ArithmeticException", "BoxSpans$Refusal", "BoxSpans$TextError"] : List String) then
              zm_thr E5 q5
            else
              zm_fl
    ) fun v5 =>
  zm_bnd (zm_astJ K a3 0 ((v5).toInt64)) fun _ =>
  zm_ret 0
theorem ct_X0_move {l : Launch} {Ω : zm_W} {K : zm_K} (H : zm_H Ω K) (a0 : zm_R) (a1 : Int32) (a2 : Int32) (a3 : zm_R) : zm_Ct l Ω yX0_move (wsW_ yX0_move cX0_move 5 (Option.some Jvm.ClassFile.FieldType.int) [(0, 10, 13, 21), (0, 10, 17, 13), (0, 10, 21, 15)]) 23 3222 [va_rf a0, .int a1, .int a2, va_rf a3] zm_tvI (fn_X0_move K a0 a1 a2 a3) := by
  refine zm_ctW H.1 (by decide +kernel) (zl_le (zl_R (zl_I (zl_I (zl_R zl_nil)))) (Nat.le_of_ble_eq_true rfl)) ?_
  intro p e R s m args below meth c n0 k0 C hN hT ls hl
  have hx := C.1
  have hb := C.2.1
  simp only [zg_I, zg_R, zg_nil] at hl
  have hl : lv_has ls 5 [(0, va_rf a0), (1, .int a1), (2, .int a2), (3, va_rf a3)] := hl
  refine rk_rf ?_
  unfold fn_X0_move
  refine rk_of (fun _ _ _ _ _ k => lr_aload_n hx hb dX0_move_0 rfl (lv_at hl 3 rfl) (lv_iconst (v := 0) hx hb dX0_move_1 rfl (lr_aload_n hx hb dX0_move_2 rfl (lv_at hl 0 rfl) (lv_iload_n hx hb dX0_move_3 rfl (lv_at hl 1 rfl) (lv_iload_n hx hb dX0_move_4 rfl (lv_at hl 2 rfl) k))))) ?_
  refine rk_cthI (cl_V (rest := [.int 0, va_rf a3]) (av := [.int a1, .int a2]) C (hc_X1 H) (ct_X1_move H a0 a1 a2) (lw_V q1485 q1486 q1487 q101 q1488) ⟨rfl, hd_X1_move⟩ ⟨(Nat.le_of_ble_eq_true rfl), (Nat.le_of_ble_eq_true rfl)⟩ rfl hl.1 rfl (zw_le (zw_I (zw_R zw_nil)) (Nat.le_of_ble_eq_true rfl)) dX0_move_5) (fun E5 q5 => ?_) (fun v5 => ?_)
  · refine rx_ite (fun h5_0 => ?_) (fun h5_0 => ?_)
    · refine rx_cat (k := 0) C hT rfl zp_nil ⟨by decide, by decide⟩ (by decide) q1373 ((zp_cons (P := fun E => (Cond.castable E "java/lang/IndexOutOfBoundsException").before args s = true) (zn_wC H C q360) (zp_cons (P := fun E => (Cond.castable E "java/lang/IndexOutOfBoundsException").before args s = true) (zn_wC H C q3093) (zp_cons (P := fun E => (Cond.castable E "java/lang/IndexOutOfBoundsException").before args s = true) (zn_wC H C q3094) zp_nil))) E5 h5_0) ?_
      refine rk_ofs (fun _ _ _ _ _ k => lr_astore hx hb dX0_move_13 hl (Nat.le_of_ble_eq_true rfl) [] rfl trivial k) (fun ls hl => ?_)
      refine rk_of (fun _ _ _ _ _ k => lv_iconst (v := 1) hx hb dX0_move_15 rfl k) ?_
      exact rk_top (rf_iret C rfl dX0_move_16)
    · refine rx_ite (fun h5_1 => ?_) (fun h5_1 => ?_)
      · refine rx_cat (k := 1) C hT rfl (zp_cons (Or.inr ⟨by decide, _, q1373, zh_ncs H C (L := ["java/lang/IllegalArgumentException"]) (by decide) h5_1⟩) zp_nil) ⟨by decide, by decide⟩ (by decide) q1126 ((zp_cons (P := fun E => (Cond.castable E "java/lang/IllegalArgumentException").before args s = true) (zn_wC H C q597) zp_nil) E5 h5_1) ?_
        refine rk_ofs (fun _ _ _ _ _ k => lr_astore hx hb dX0_move_17 hl (Nat.le_of_ble_eq_true rfl) [] rfl trivial k) (fun ls hl => ?_)
        refine rk_of (fun _ _ _ _ _ k => lv_iconst (v := 2) hx hb dX0_move_19 rfl k) ?_
        exact rk_top (rf_iret C rfl dX0_move_20)
      · refine rx_ite (fun h5_2 => ?_) (fun h5_2 => ?_)
        · refine rx_cat (k := 2) C hT rfl (zp_cons (Or.inr ⟨by decide, _, q1373, zh_ncs H C (L := ["java/lang/UnsupportedOperationException"]) (by decide) h5_2⟩) (zp_cons (Or.inr ⟨by decide, _, q1126, zh_ncs H C (L := ["java/lang/UnsupportedOperationException"]) (by decide) h5_2⟩) zp_nil)) ⟨by decide, by decide⟩ (by decide) q1127 ((zp_cons (P := fun E => (Cond.castable E "java/lang/UnsupportedOperationException").before args s = true) (zn_wC H C q1357) zp_nil) E5 h5_2) ?_
          refine rk_ofs (fun _ _ _ _ _ k => lr_astore hx hb dX0_move_21 hl (Nat.le_of_ble_eq_true rfl) [] rfl trivial k) (fun ls hl => ?_)
          refine rk_of (fun _ _ _ _ _ k => lv_iconst (v := 3) hx hb dX0_move_23 rfl k) ?_
          exact rk_top (rf_iret C rfl dX0_move_24)
        · refine rx_ite (fun h5_x => ?_) (fun _ => rx_fl)
          exact rx_out C hT (zp_cons (Or.inr ⟨by decide, _, q1373, zh_ncs H C (L := ["java/util/NoSuchElementException", "java/lang/IllegalStateException", "java/lang/ArithmeticException", "BoxSpans$Refusal", "BoxSpans$TextError"]) (by decide) h5_x⟩) (zp_cons (Or.inr ⟨by decide, _, q1126, zh_ncs H C (L := ["java/util/NoSuchElementException", "java/lang/IllegalStateException", "java/lang/ArithmeticException", "BoxSpans$Refusal", "BoxSpans$TextError"]) (by decide) h5_x⟩) (zp_cons (Or.inr ⟨by decide, _, q1127, zh_ncs H C (L := ["java/util/NoSuchElementException", "java/lang/IllegalStateException", "java/lang/ArithmeticException", "BoxSpans$Refusal", "BoxSpans$TextError"]) (by decide) h5_x⟩) zp_nil)))
  refine rk_of (fun _ _ _ _ _ k => lv_i2l hx hb dX0_move_8 rfl k) ?_
  refine rk_last C H.2.2.1 dX0_move_9 ?_
  refine rk_of (fun _ _ _ _ _ k => lv_goto (tgt := 25) hx hb dX0_move_10 (by decide) (lv_iconst (v := 0) hx hb dX0_move_25 rfl k)) ?_
  exact rk_top (rf_iret C rfl dX0_move_26)
theorem hd_X1_split : yX1_split.cls ≠ "java/lang/invoke/MethodHandle" ∧ yX1_split.cls ≠ "java/lang/invoke/VarHandle" ∧ (parseMethodDescriptor yX1_split.desc).map (fun d => d.parameters.length) = some 2 := by decide +kernel
noncomputable def fn_X1_split (K : zm_K) (a0 : zm_R) (a1 : Int32) (a2 : Int32) : zm_M Int32 :=
  zm_bnd (zm_bnd (zm_is a0 18) fun _ => fn_X1_lettingAt K a0 a1) fun v2 =>
  zm_bnd (zm_new 104 [.int a1, .int a2]) fun v9 =>
  zm_bnd (zm_bnd (zm_is a0 18) fun _ => fn_X1_changed K a0 (some v9)) fun v14 =>
  zm_ret v14
theorem ct_X1_split {l : Launch} {Ω : zm_W} {K : zm_K} (H : zm_H Ω K) (a0 : zm_R) (a1 : Int32) (a2 : Int32) : zm_Ct l Ω yX1_split (ws_ yX1_split cX1_split 3 (Option.some Jvm.ClassFile.FieldType.int)) 22 3200 [va_rf a0, .int a1, .int a2] zm_tvI (fn_X1_split K a0 a1 a2) := by
  refine zm_ctN H.1 (by decide +kernel) (zl_le (zl_R (zl_I (zl_I zl_nil))) (Nat.le_of_ble_eq_true rfl)) ?_
  intro p e R s m args below meth c n0 k0 C hX hN ls hl
  have hx := C.1
  have hb := C.2.1
  simp only [zg_I, zg_R, zg_nil] at hl
  have hl : lv_has ls 3 [(0, va_rf a0), (1, .int a1), (2, .int a2)] := hl
  refine rk_rf ?_
  unfold fn_X1_split
  refine rk_of (fun _ _ _ _ _ k => lr_aload_n hx hb dX1_split_0 rfl (lv_at hl 0 rfl) (lv_iload_n hx hb dX1_split_1 rfl (lv_at hl 1 rfl) k)) ?_
  refine rk_callR hX (cl_V (rest := []) (av := [.int a1]) C (hc_X1 H) (ct_X1_lettingAt H a0 a1) (lw_V q1453 q1455 qs19 q101 q1456) ⟨rfl, hd_X1_lettingAt⟩ ⟨(Nat.le_of_ble_eq_true rfl), (Nat.le_of_ble_eq_true rfl)⟩ rfl hl.1 rfl (zw_le zw_nil (Nat.le_of_ble_eq_true rfl)) dX1_split_2) (fun v2 => ?_)
  refine rk_of (fun _ _ _ _ _ k => lv_pop hx hb dX1_split_5 (va_rf_cat _) (lr_aload_n hx hb dX1_split_6 rfl (lv_at hl 0 rfl) (lv_iload_n hx hb dX1_split_7 rfl (lv_at hl 1 rfl) (lv_iload_n hx hb dX1_split_8 rfl (lv_at hl 2 rfl) k)))) ?_
  refine rk_lam H C hN (i := 4) rfl (by decide) zk_ok4 (zh_O H) (vals := [.int a1, .int a2]) (rest := [va_rf a0]) rfl (zk_cons rfl (zk_cons rfl zk_nil)) (zf_cons rfl (zf_cons rfl zf_nil)) hl.1 rfl (zw_ad (zw_I (zw_I (zw_R zw_nil))) (Nat.le_of_ble_eq_true rfl)) dX1_split_9 (fun v9 => ?_)
  refine rk_callI hX (cl_VX (rest := []) (av := [va_rf (some v9)]) C (hc_X1 H) (ct_X1_changed H a0 (some v9)) (lw_VW q1262 q1264 qs12 q101 q1265) ⟨rfl, hd_X1_changed⟩ ⟨(Nat.le_of_ble_eq_true rfl), (Nat.le_of_ble_eq_true rfl)⟩ rfl hl.1 rfl (zw_le zw_nil (Nat.le_of_ble_eq_true rfl)) dX1_split_14) (fun v14 => ?_)
  exact rk_top (rf_iret C rfl dX1_split_17)
theorem hd_X0_split : yX0_split.cls ≠ "java/lang/invoke/MethodHandle" ∧ yX0_split.cls ≠ "java/lang/invoke/VarHandle" ∧ (parseMethodDescriptor yX0_split.desc).map (fun d => d.parameters.length) = some 4 := by decide +kernel
noncomputable def fn_X0_split (K : zm_K) (a0 : zm_R) (a1 : Int32) (a2 : Int32) (a3 : zm_R) : zm_M Int32 :=
  zm_cth (zm_bnd (zm_is a0 18) fun _ => fn_X1_split K a0 a1 a2) (fun (E5 : String) (q5 : Nat) =>
      if E5 ∈ (["java/lang/IndexOutOfBoundsException", "java/lang/ArrayIndexOutOfBoundsException", "java/lang/StringIndexOutOfBoundsException"] : List String) then
        zm_ret 1
      else
        if E5 ∈ (["java/lang/UnsupportedOperationException"] : List String) then
          zm_ret 2
        else
          if E5 ∈ (["java/lang/IllegalArgumentException", "java/util/NoSuchElementException", "java/lang/IllegalStateException", "java/lang/ArithmeticException", "BoxSpans$Refusal", "BoxSpans$TextError"] : List String) then
            zm_thr E5 q5
          else
            zm_fl
    ) fun v5 =>
  zm_bnd (zm_astJ K a3 0 ((v5).toInt64)) fun _ =>
  zm_ret 0
theorem ct_X0_split {l : Launch} {Ω : zm_W} {K : zm_K} (H : zm_H Ω K) (a0 : zm_R) (a1 : Int32) (a2 : Int32) (a3 : zm_R) : zm_Ct l Ω yX0_split (wsW_ yX0_split cX0_split 5 (Option.some Jvm.ClassFile.FieldType.int) [(0, 10, 13, 21), (0, 10, 17, 15)]) 23 3222 [va_rf a0, .int a1, .int a2, va_rf a3] zm_tvI (fn_X0_split K a0 a1 a2 a3) := by
  refine zm_ctW H.1 (by decide +kernel) (zl_le (zl_R (zl_I (zl_I (zl_R zl_nil)))) (Nat.le_of_ble_eq_true rfl)) ?_
  intro p e R s m args below meth c n0 k0 C hN hT ls hl
  have hx := C.1
  have hb := C.2.1
  simp only [zg_I, zg_R, zg_nil] at hl
  have hl : lv_has ls 5 [(0, va_rf a0), (1, .int a1), (2, .int a2), (3, va_rf a3)] := hl
  refine rk_rf ?_
  unfold fn_X0_split
  refine rk_of (fun _ _ _ _ _ k => lr_aload_n hx hb dX0_split_0 rfl (lv_at hl 3 rfl) (lv_iconst (v := 0) hx hb dX0_split_1 rfl (lr_aload_n hx hb dX0_split_2 rfl (lv_at hl 0 rfl) (lv_iload_n hx hb dX0_split_3 rfl (lv_at hl 1 rfl) (lv_iload_n hx hb dX0_split_4 rfl (lv_at hl 2 rfl) k))))) ?_
  refine rk_cthI (cl_V (rest := [.int 0, va_rf a3]) (av := [.int a1, .int a2]) C (hc_X1 H) (ct_X1_split H a0 a1 a2) (lw_V q1524 q1525 q1526 q101 q1527) ⟨rfl, hd_X1_split⟩ ⟨(Nat.le_of_ble_eq_true rfl), (Nat.le_of_ble_eq_true rfl)⟩ rfl hl.1 rfl (zw_le (zw_I (zw_R zw_nil)) (Nat.le_of_ble_eq_true rfl)) dX0_split_5) (fun E5 q5 => ?_) (fun v5 => ?_)
  · refine rx_ite (fun h5_0 => ?_) (fun h5_0 => ?_)
    · refine rx_cat (k := 0) C hT rfl zp_nil ⟨by decide, by decide⟩ (by decide) q1373 ((zp_cons (P := fun E => (Cond.castable E "java/lang/IndexOutOfBoundsException").before args s = true) (zn_wC H C q360) (zp_cons (P := fun E => (Cond.castable E "java/lang/IndexOutOfBoundsException").before args s = true) (zn_wC H C q3093) (zp_cons (P := fun E => (Cond.castable E "java/lang/IndexOutOfBoundsException").before args s = true) (zn_wC H C q3094) zp_nil))) E5 h5_0) ?_
      refine rk_ofs (fun _ _ _ _ _ k => lr_astore hx hb dX0_split_13 hl (Nat.le_of_ble_eq_true rfl) [] rfl trivial k) (fun ls hl => ?_)
      refine rk_of (fun _ _ _ _ _ k => lv_iconst (v := 1) hx hb dX0_split_15 rfl k) ?_
      exact rk_top (rf_iret C rfl dX0_split_16)
    · refine rx_ite (fun h5_1 => ?_) (fun h5_1 => ?_)
      · refine rx_cat (k := 1) C hT rfl (zp_cons (Or.inr ⟨by decide, _, q1373, zh_ncs H C (L := ["java/lang/UnsupportedOperationException"]) (by decide) h5_1⟩) zp_nil) ⟨by decide, by decide⟩ (by decide) q1127 ((zp_cons (P := fun E => (Cond.castable E "java/lang/UnsupportedOperationException").before args s = true) (zn_wC H C q1357) zp_nil) E5 h5_1) ?_
        refine rk_ofs (fun _ _ _ _ _ k => lr_astore hx hb dX0_split_17 hl (Nat.le_of_ble_eq_true rfl) [] rfl trivial k) (fun ls hl => ?_)
        refine rk_of (fun _ _ _ _ _ k => lv_iconst (v := 2) hx hb dX0_split_19 rfl k) ?_
        exact rk_top (rf_iret C rfl dX0_split_20)
      · refine rx_ite (fun h5_x => ?_) (fun _ => rx_fl)
        exact rx_out C hT (zp_cons (Or.inr ⟨by decide, _, q1373, zh_ncs H C (L := ["java/lang/IllegalArgumentException", "java/util/NoSuchElementException", "java/lang/IllegalStateException", "java/lang/ArithmeticException", "BoxSpans$Refusal", "BoxSpans$TextError"]) (by decide) h5_x⟩) (zp_cons (Or.inr ⟨by decide, _, q1127, zh_ncs H C (L := ["java/lang/IllegalArgumentException", "java/util/NoSuchElementException", "java/lang/IllegalStateException", "java/lang/ArithmeticException", "BoxSpans$Refusal", "BoxSpans$TextError"]) (by decide) h5_x⟩) zp_nil))
  refine rk_of (fun _ _ _ _ _ k => lv_i2l hx hb dX0_split_8 rfl k) ?_
  refine rk_last C H.2.2.1 dX0_split_9 ?_
  refine rk_of (fun _ _ _ _ _ k => lv_goto (tgt := 21) hx hb dX0_split_10 (by decide) (lv_iconst (v := 0) hx hb dX0_split_21 rfl k)) ?_
  exact rk_top (rf_iret C rfl dX0_split_22)
theorem hd_X1_join : yX1_join.cls ≠ "java/lang/invoke/MethodHandle" ∧ yX1_join.cls ≠ "java/lang/invoke/VarHandle" ∧ (parseMethodDescriptor yX1_join.desc).map (fun d => d.parameters.length) = some 2 := by decide +kernel
noncomputable def fn_X1_join (K : zm_K) (a0 : zm_R) (a1 : Int32) (a2 : Int32) : zm_M Int32 :=
  zm_bnd (zm_bnd (zm_is a0 18) fun _ => fn_X1_lettingAt K a0 a1) fun v2 =>
  zm_bnd (zm_bnd (zm_is a0 18) fun _ => fn_X1_lettingAt K a0 a2) fun v8 =>
  zm_bnd (α := Int32) (
      if a1 = a2 then
        zm_ret 0
      else
        zm_ret 1
    ) fun b22 =>
  zm_bnd (fn_X1_require K b22) fun _ =>
  zm_bnd (zm_new 105 [.int a1, .int a2]) fun v28 =>
  zm_bnd (zm_bnd (zm_is a0 18) fun _ => fn_X1_changed K a0 (some v28)) fun v33 =>
  zm_ret v33
theorem ct_X1_join {l : Launch} {Ω : zm_W} {K : zm_K} (H : zm_H Ω K) (a0 : zm_R) (a1 : Int32) (a2 : Int32) : zm_Ct l Ω yX1_join (ws_ yX1_join cX1_join 3 (Option.some Jvm.ClassFile.FieldType.int)) 22 3200 [va_rf a0, .int a1, .int a2] zm_tvI (fn_X1_join K a0 a1 a2) := by
  refine zm_ctN H.1 (by decide +kernel) (zl_le (zl_R (zl_I (zl_I zl_nil))) (Nat.le_of_ble_eq_true rfl)) ?_
  intro p e R s m args below meth c n0 k0 C hX hN ls hl
  have hx := C.1
  have hb := C.2.1
  simp only [zg_I, zg_R, zg_nil] at hl
  have hl : lv_has ls 3 [(0, va_rf a0), (1, .int a1), (2, .int a2)] := hl
  refine rk_rf ?_
  unfold fn_X1_join
  refine rk_of (fun _ _ _ _ _ k => lr_aload_n hx hb dX1_join_0 rfl (lv_at hl 0 rfl) (lv_iload_n hx hb dX1_join_1 rfl (lv_at hl 1 rfl) k)) ?_
  refine rk_callR hX (cl_V (rest := []) (av := [.int a1]) C (hc_X1 H) (ct_X1_lettingAt H a0 a1) (lw_V q1453 q1455 qs19 q101 q1456) ⟨rfl, hd_X1_lettingAt⟩ ⟨(Nat.le_of_ble_eq_true rfl), (Nat.le_of_ble_eq_true rfl)⟩ rfl hl.1 rfl (zw_le zw_nil (Nat.le_of_ble_eq_true rfl)) dX1_join_2) (fun v2 => ?_)
  refine rk_of (fun _ _ _ _ _ k => lv_pop hx hb dX1_join_5 (va_rf_cat _) (lr_aload_n hx hb dX1_join_6 rfl (lv_at hl 0 rfl) (lv_iload_n hx hb dX1_join_7 rfl (lv_at hl 2 rfl) k))) ?_
  refine rk_callR hX (cl_V (rest := []) (av := [.int a2]) C (hc_X1 H) (ct_X1_lettingAt H a0 a2) (lw_V q1453 q1455 qs19 q101 q1456) ⟨rfl, hd_X1_lettingAt⟩ ⟨(Nat.le_of_ble_eq_true rfl), (Nat.le_of_ble_eq_true rfl)⟩ rfl hl.1 rfl (zw_le zw_nil (Nat.le_of_ble_eq_true rfl)) dX1_join_8) (fun v8 => ?_)
  refine rk_of (fun _ _ _ _ _ k => lv_pop hx hb dX1_join_11 (va_rf_cat _) (lv_iload_n hx hb dX1_join_12 rfl (lv_at hl 1 rfl) (lv_iload_n hx hb dX1_join_13 rfl (lv_at hl 2 rfl) k))) ?_
  refine rk_join (β := Int32) (fun (b22 : Int32) ls => lv_has ls 3 [(0, va_rf a0), (1, .int a1), (2, .int a2)]) (fun (b22 : Int32) ls => F0 m 22 ls [.int b22]) (fun b22 ls hl => ?_) (fun hJ22 => ?_)
  · refine rk_callV hX (cl_S (rest := []) C (ct_X1_require H b22) (lw_S q1135 q1136 q101 q1137) hd_X1_require ⟨(Nat.le_of_ble_eq_true rfl), (Nat.le_of_ble_eq_true rfl)⟩ rfl hl.1 rfl (zw_le zw_nil (Nat.le_of_ble_eq_true rfl)) dX1_join_22) (fun _ => ?_)
    refine rk_of (fun _ _ _ _ _ k => lr_aload_n hx hb dX1_join_25 rfl (lv_at hl 0 rfl) (lv_iload_n hx hb dX1_join_26 rfl (lv_at hl 1 rfl) (lv_iload_n hx hb dX1_join_27 rfl (lv_at hl 2 rfl) k))) ?_
    refine rk_lam H C hN (i := 5) rfl (by decide) zk_ok5 (zh_O H) (vals := [.int a1, .int a2]) (rest := [va_rf a0]) rfl (zk_cons rfl (zk_cons rfl zk_nil)) (zf_cons rfl (zf_cons rfl zf_nil)) hl.1 rfl (zw_ad (zw_I (zw_I (zw_R zw_nil))) (Nat.le_of_ble_eq_true rfl)) dX1_join_28 (fun v28 => ?_)
    refine rk_callI hX (cl_VX (rest := []) (av := [va_rf (some v28)]) C (hc_X1 H) (ct_X1_changed H a0 (some v28)) (lw_VW q1262 q1264 qs12 q101 q1265) ⟨rfl, hd_X1_changed⟩ ⟨(Nat.le_of_ble_eq_true rfl), (Nat.le_of_ble_eq_true rfl)⟩ rfl hl.1 rfl (zw_le zw_nil (Nat.le_of_ble_eq_true rfl)) dX1_join_33) (fun v33 => ?_)
    exact rk_top (rf_iret C rfl dX1_join_36)
  · refine rk_ite (fun _ _ _ _ _ k1 k2 => lv_icmp_eq (tgt := 21) hx hb dX1_join_14 (by decide) k1 k2) (fun c_14 => ?_) (fun c_14 => ?_)
    · refine rk_of (fun _ _ _ _ _ k => lv_iconst (v := 0) hx hb dX1_join_21 rfl k) ?_
      exact hJ22 0 ls (lv_sub hl [0, 1, 2] rfl)
    · refine rk_of (fun _ _ _ _ _ k => lv_iconst (v := 1) hx hb dX1_join_17 rfl (lv_goto (tgt := 22) hx hb dX1_join_18 (by decide) k)) ?_
      exact hJ22 1 ls (lv_sub hl [0, 1, 2] rfl)
theorem hd_X0_join : yX0_join.cls ≠ "java/lang/invoke/MethodHandle" ∧ yX0_join.cls ≠ "java/lang/invoke/VarHandle" ∧ (parseMethodDescriptor yX0_join.desc).map (fun d => d.parameters.length) = some 4 := by decide +kernel
noncomputable def fn_X0_join (K : zm_K) (a0 : zm_R) (a1 : Int32) (a2 : Int32) (a3 : zm_R) : zm_M Int32 :=
  zm_cth (zm_bnd (zm_is a0 18) fun _ => fn_X1_join K a0 a1 a2) (fun (E5 : String) (q5 : Nat) =>
      if E5 ∈ (["java/lang/IndexOutOfBoundsException", "java/lang/ArrayIndexOutOfBoundsException", "java/lang/StringIndexOutOfBoundsException"] : List String) then
        zm_ret 1
      else
        if E5 ∈ (["java/lang/IllegalArgumentException"] : List String) then
          zm_ret 2
        else
          if E5 ∈ (["java/lang/UnsupportedOperationException"] : List String) then
            zm_ret 3
          else
            if E5 ∈ (["java/util/NoSuchElementException", "java/lang/IllegalStateException", "java/lang/ArithmeticException", "BoxSpans$Refusal", "BoxSpans$TextError"] : List String) then
              zm_thr E5 q5
            else
              zm_fl
    ) fun v5 =>
  zm_bnd (zm_astJ K a3 0 ((v5).toInt64)) fun _ =>
  zm_ret 0
theorem ct_X0_join {l : Launch} {Ω : zm_W} {K : zm_K} (H : zm_H Ω K) (a0 : zm_R) (a1 : Int32) (a2 : Int32) (a3 : zm_R) : zm_Ct l Ω yX0_join (wsW_ yX0_join cX0_join 5 (Option.some Jvm.ClassFile.FieldType.int) [(0, 10, 13, 21), (0, 10, 17, 13), (0, 10, 21, 15)]) 23 3222 [va_rf a0, .int a1, .int a2, va_rf a3] zm_tvI (fn_X0_join K a0 a1 a2 a3) := by
  refine zm_ctW H.1 (by decide +kernel) (zl_le (zl_R (zl_I (zl_I (zl_R zl_nil)))) (Nat.le_of_ble_eq_true rfl)) ?_
  intro p e R s m args below meth c n0 k0 C hN hT ls hl
  have hx := C.1
  have hb := C.2.1
  simp only [zg_I, zg_R, zg_nil] at hl
  have hl : lv_has ls 5 [(0, va_rf a0), (1, .int a1), (2, .int a2), (3, va_rf a3)] := hl
  refine rk_rf ?_
  unfold fn_X0_join
  refine rk_of (fun _ _ _ _ _ k => lr_aload_n hx hb dX0_join_0 rfl (lv_at hl 3 rfl) (lv_iconst (v := 0) hx hb dX0_join_1 rfl (lr_aload_n hx hb dX0_join_2 rfl (lv_at hl 0 rfl) (lv_iload_n hx hb dX0_join_3 rfl (lv_at hl 1 rfl) (lv_iload_n hx hb dX0_join_4 rfl (lv_at hl 2 rfl) k))))) ?_
  refine rk_cthI (cl_V (rest := [.int 0, va_rf a3]) (av := [.int a1, .int a2]) C (hc_X1 H) (ct_X1_join H a0 a1 a2) (lw_V q1544 q1545 q1546 q101 q1547) ⟨rfl, hd_X1_join⟩ ⟨(Nat.le_of_ble_eq_true rfl), (Nat.le_of_ble_eq_true rfl)⟩ rfl hl.1 rfl (zw_le (zw_I (zw_R zw_nil)) (Nat.le_of_ble_eq_true rfl)) dX0_join_5) (fun E5 q5 => ?_) (fun v5 => ?_)
  · refine rx_ite (fun h5_0 => ?_) (fun h5_0 => ?_)
    · refine rx_cat (k := 0) C hT rfl zp_nil ⟨by decide, by decide⟩ (by decide) q1373 ((zp_cons (P := fun E => (Cond.castable E "java/lang/IndexOutOfBoundsException").before args s = true) (zn_wC H C q360) (zp_cons (P := fun E => (Cond.castable E "java/lang/IndexOutOfBoundsException").before args s = true) (zn_wC H C q3093) (zp_cons (P := fun E => (Cond.castable E "java/lang/IndexOutOfBoundsException").before args s = true) (zn_wC H C q3094) zp_nil))) E5 h5_0) ?_
      refine rk_ofs (fun _ _ _ _ _ k => lr_astore hx hb dX0_join_13 hl (Nat.le_of_ble_eq_true rfl) [] rfl trivial k) (fun ls hl => ?_)
      refine rk_of (fun _ _ _ _ _ k => lv_iconst (v := 1) hx hb dX0_join_15 rfl k) ?_
      exact rk_top (rf_iret C rfl dX0_join_16)
    · refine rx_ite (fun h5_1 => ?_) (fun h5_1 => ?_)
      · refine rx_cat (k := 1) C hT rfl (zp_cons (Or.inr ⟨by decide, _, q1373, zh_ncs H C (L := ["java/lang/IllegalArgumentException"]) (by decide) h5_1⟩) zp_nil) ⟨by decide, by decide⟩ (by decide) q1126 ((zp_cons (P := fun E => (Cond.castable E "java/lang/IllegalArgumentException").before args s = true) (zn_wC H C q597) zp_nil) E5 h5_1) ?_
        refine rk_ofs (fun _ _ _ _ _ k => lr_astore hx hb dX0_join_17 hl (Nat.le_of_ble_eq_true rfl) [] rfl trivial k) (fun ls hl => ?_)
        refine rk_of (fun _ _ _ _ _ k => lv_iconst (v := 2) hx hb dX0_join_19 rfl k) ?_
        exact rk_top (rf_iret C rfl dX0_join_20)
      · refine rx_ite (fun h5_2 => ?_) (fun h5_2 => ?_)
        · refine rx_cat (k := 2) C hT rfl (zp_cons (Or.inr ⟨by decide, _, q1373, zh_ncs H C (L := ["java/lang/UnsupportedOperationException"]) (by decide) h5_2⟩) (zp_cons (Or.inr ⟨by decide, _, q1126, zh_ncs H C (L := ["java/lang/UnsupportedOperationException"]) (by decide) h5_2⟩) zp_nil)) ⟨by decide, by decide⟩ (by decide) q1127 ((zp_cons (P := fun E => (Cond.castable E "java/lang/UnsupportedOperationException").before args s = true) (zn_wC H C q1357) zp_nil) E5 h5_2) ?_
          refine rk_ofs (fun _ _ _ _ _ k => lr_astore hx hb dX0_join_21 hl (Nat.le_of_ble_eq_true rfl) [] rfl trivial k) (fun ls hl => ?_)
          refine rk_of (fun _ _ _ _ _ k => lv_iconst (v := 3) hx hb dX0_join_23 rfl k) ?_
          exact rk_top (rf_iret C rfl dX0_join_24)
        · refine rx_ite (fun h5_x => ?_) (fun _ => rx_fl)
          exact rx_out C hT (zp_cons (Or.inr ⟨by decide, _, q1373, zh_ncs H C (L := ["java/util/NoSuchElementException", "java/lang/IllegalStateException", "java/lang/ArithmeticException", "BoxSpans$Refusal", "BoxSpans$TextError"]) (by decide) h5_x⟩) (zp_cons (Or.inr ⟨by decide, _, q1126, zh_ncs H C (L := ["java/util/NoSuchElementException", "java/lang/IllegalStateException", "java/lang/ArithmeticException", "BoxSpans$Refusal", "BoxSpans$TextError"]) (by decide) h5_x⟩) (zp_cons (Or.inr ⟨by decide, _, q1127, zh_ncs H C (L := ["java/util/NoSuchElementException", "java/lang/IllegalStateException", "java/lang/ArithmeticException", "BoxSpans$Refusal", "BoxSpans$TextError"]) (by decide) h5_x⟩) zp_nil)))
  refine rk_of (fun _ _ _ _ _ k => lv_i2l hx hb dX0_join_8 rfl k) ?_
  refine rk_last C H.2.2.1 dX0_join_9 ?_
  refine rk_of (fun _ _ _ _ _ k => lv_goto (tgt := 25) hx hb dX0_join_10 (by decide) (lv_iconst (v := 0) hx hb dX0_join_25 rfl k)) ?_
  exact rk_top (rf_iret C rfl dX0_join_26)
theorem hd_X1_lettingOf : yX1_lettingOf.cls ≠ "java/lang/invoke/MethodHandle" ∧ yX1_lettingOf.cls ≠ "java/lang/invoke/VarHandle" ∧ (parseMethodDescriptor yX1_lettingOf.desc).map (fun d => d.parameters.length) = some 2 := by decide +kernel
noncomputable def fn_X1_lettingOf (K : zm_K) (a0 : zm_R) (a1 : Int32) (a2 : Int32) : zm_M Int32 :=
  zm_bnd (zm_bnd (zm_is a0 18) fun _ => fn_X1_lettingAt K a0 a1) fun v2 =>
  if a2 = 0 then
    zm_bnd (zm_bnd (zm_is v2 23) fun _ => fn_X6_box K v2) fun v45 =>
    zm_ret v45
  else
    if a2 = 1 then
      zm_bnd (zm_bnd (zm_is v2 23) fun _ => fn_X6_from K v2) fun v52 =>
      zm_ret v52
    else
      if a2 = 2 then
        zm_bnd (zm_bnd (zm_is v2 23) fun _ => fn_X6_to K v2) fun v59 =>
        zm_ret v59
      else
        if a2 = 3 then
          zm_bnd (zm_bnd (zm_is v2 23) fun _ => fn_X6_party K v2) fun v66 =>
          zm_ret v66
        else
          if a2 = 4 then
            zm_bnd (zm_bnd (zm_is v2 23) fun _ => fn_X6_isOver K v2) fun v73 =>
            zm_bnd (fn_X1_asNumber K v73) fun v76 =>
            zm_ret v76
          else
            if a2 = 5 then
              zm_bnd (zm_bnd (zm_is v2 23) fun _ => fn_X6_coins K v2) fun v83 =>
              zm_ret v83
            else
              zm_bnd (zm_new 5 [.null, .null, .null, .null, .null, .int 0]) fun v89 =>
              zm_bnd (fn_J12_init_2 K (some v89)) fun _ =>
              zm_ath (some v89)
theorem ct_X1_lettingOf {l : Launch} {Ω : zm_W} {K : zm_K} (H : zm_H Ω K) (a0 : zm_R) (a1 : Int32) (a2 : Int32) : zm_Ct l Ω yX1_lettingOf (ws_ yX1_lettingOf cX1_lettingOf 4 (Option.some Jvm.ClassFile.FieldType.int)) 12 296 [va_rf a0, .int a1, .int a2] zm_tvI (fn_X1_lettingOf K a0 a1 a2) := by
  refine zm_ct H.1 (by decide +kernel) (zl_le (zl_R (zl_I (zl_I zl_nil))) (Nat.le_of_ble_eq_true rfl)) ?_
  intro p e R s m args below meth c n0 k0 C hX ls hl
  have hx := C.1
  have hb := C.2.1
  simp only [zg_I, zg_R, zg_nil] at hl
  have hl : lv_has ls 4 [(0, va_rf a0), (1, .int a1), (2, .int a2)] := hl
  refine rk_rf ?_
  unfold fn_X1_lettingOf
  refine rk_of (fun _ _ _ _ _ k => lr_aload_n hx hb dX1_lettingOf_0 rfl (lv_at hl 0 rfl) (lv_iload_n hx hb dX1_lettingOf_1 rfl (lv_at hl 1 rfl) k)) ?_
  refine rk_callR hX (cl_V (rest := []) (av := [.int a1]) C (hc_X1 H) (ct_X1_lettingAt H a0 a1) (lw_V q1453 q1455 qs19 q101 q1456) ⟨rfl, hd_X1_lettingAt⟩ ⟨(Nat.le_of_ble_eq_true rfl), (Nat.le_of_ble_eq_true rfl)⟩ rfl hl.1 rfl (zw_le zw_nil (Nat.le_of_ble_eq_true rfl)) dX1_lettingOf_2) (fun v2 => ?_)
  refine rk_ofs (fun _ _ _ _ _ k => lr_astore_n hx hb dX1_lettingOf_5 rfl hl (Nat.le_of_ble_eq_true rfl) [2] rfl ⟨rfl, trivial⟩ k) (fun ls hl => ?_)
  refine rk_of (fun _ _ _ _ _ k => lv_iload_n hx hb dX1_lettingOf_6 rfl (lv_at hl 1 rfl) k) ?_
  refine rk_case (fun c_7_0 => ?_) (fun c_7_0 => ?_)
  · refine rk_of (fun _ _ _ _ _ k => by rw [c_7_0]; exact lv_tableIn (off := 37) (tgt := 44) hx hb dX1_lettingOf_7 (by decide) (by decide) rfl (by decide) k) ?_
    refine rk_of (fun _ _ _ _ _ k => lr_aload_n hx hb dX1_lettingOf_44 rfl (lv_at hl 0 rfl) k) ?_
    refine rk_callI hX (cl_V (rest := []) (av := []) C (hc_X6 H) (ct_X6_box H v2) (lw_V q1574 q1513 q1514 q137 q1515) ⟨rfl, hd_X6_box⟩ ⟨(Nat.le_of_ble_eq_true rfl), (Nat.le_of_ble_eq_true rfl)⟩ rfl hl.1 rfl (zw_le zw_nil (Nat.le_of_ble_eq_true rfl)) dX1_lettingOf_45) (fun v45 => ?_)
    refine rk_of (fun _ _ _ _ _ k => lv_goto (tgt := 97) hx hb dX1_lettingOf_48 (by decide) k) ?_
    exact rk_top (rf_iret C rfl dX1_lettingOf_97)
  · refine rk_case (fun c_7_1 => ?_) (fun c_7_1 => ?_)
    · refine rk_of (fun _ _ _ _ _ k => by rw [c_7_1]; exact lv_tableIn (off := 44) (tgt := 51) hx hb dX1_lettingOf_7 (by decide) (by decide) rfl (by decide) k) ?_
      refine rk_of (fun _ _ _ _ _ k => lr_aload_n hx hb dX1_lettingOf_51 rfl (lv_at hl 0 rfl) k) ?_
      refine rk_callI hX (cl_V (rest := []) (av := []) C (hc_X6 H) (ct_X6_from H v2) (lw_V q1575 q1007 q3082 q137 q1009) ⟨rfl, hd_X6_from⟩ ⟨(Nat.le_of_ble_eq_true rfl), (Nat.le_of_ble_eq_true rfl)⟩ rfl hl.1 rfl (zw_le zw_nil (Nat.le_of_ble_eq_true rfl)) dX1_lettingOf_52) (fun v52 => ?_)
      refine rk_of (fun _ _ _ _ _ k => lv_goto (tgt := 97) hx hb dX1_lettingOf_55 (by decide) k) ?_
      exact rk_top (rf_iret C rfl dX1_lettingOf_97)
    · refine rk_case (fun c_7_2 => ?_) (fun c_7_2 => ?_)
      · refine rk_of (fun _ _ _ _ _ k => by rw [c_7_2]; exact lv_tableIn (off := 51) (tgt := 58) hx hb dX1_lettingOf_7 (by decide) (by decide) rfl (by decide) k) ?_
        refine rk_of (fun _ _ _ _ _ k => lr_aload_n hx hb dX1_lettingOf_58 rfl (lv_at hl 0 rfl) k) ?_
        refine rk_callI hX (cl_V (rest := []) (av := []) C (hc_X6 H) (ct_X6_to H v2) (lw_V q1576 q1031 q3083 q137 q1033) ⟨rfl, hd_X6_to⟩ ⟨(Nat.le_of_ble_eq_true rfl), (Nat.le_of_ble_eq_true rfl)⟩ rfl hl.1 rfl (zw_le zw_nil (Nat.le_of_ble_eq_true rfl)) dX1_lettingOf_59) (fun v59 => ?_)
        refine rk_of (fun _ _ _ _ _ k => lv_goto (tgt := 97) hx hb dX1_lettingOf_62 (by decide) k) ?_
        exact rk_top (rf_iret C rfl dX1_lettingOf_97)
      · refine rk_case (fun c_7_3 => ?_) (fun c_7_3 => ?_)
        · refine rk_of (fun _ _ _ _ _ k => by rw [c_7_3]; exact lv_tableIn (off := 58) (tgt := 65) hx hb dX1_lettingOf_7 (by decide) (by decide) rfl (by decide) k) ?_
          refine rk_of (fun _ _ _ _ _ k => lr_aload_n hx hb dX1_lettingOf_65 rfl (lv_at hl 0 rfl) k) ?_
          refine rk_callI hX (cl_V (rest := []) (av := []) C (hc_X6 H) (ct_X6_party H v2) (lw_V q1577 q1535 q1536 q137 q1537) ⟨rfl, hd_X6_party⟩ ⟨(Nat.le_of_ble_eq_true rfl), (Nat.le_of_ble_eq_true rfl)⟩ rfl hl.1 rfl (zw_le zw_nil (Nat.le_of_ble_eq_true rfl)) dX1_lettingOf_66) (fun v66 => ?_)
          refine rk_of (fun _ _ _ _ _ k => lv_goto (tgt := 97) hx hb dX1_lettingOf_69 (by decide) k) ?_
          exact rk_top (rf_iret C rfl dX1_lettingOf_97)
        · refine rk_case (fun c_7_4 => ?_) (fun c_7_4 => ?_)
          · refine rk_of (fun _ _ _ _ _ k => by rw [c_7_4]; exact lv_tableIn (off := 65) (tgt := 72) hx hb dX1_lettingOf_7 (by decide) (by decide) rfl (by decide) k) ?_
            refine rk_of (fun _ _ _ _ _ k => lr_aload_n hx hb dX1_lettingOf_72 rfl (lv_at hl 0 rfl) k) ?_
            refine rk_callI hX (cl_V (rest := []) (av := []) C (hc_X6 H) (ct_X6_isOver H v2) (lw_V q1578 q1475 q1476 q137 q1477) ⟨rfl, hd_X6_isOver⟩ ⟨(Nat.le_of_ble_eq_true rfl), (Nat.le_of_ble_eq_true rfl)⟩ rfl hl.1 rfl (zw_le zw_nil (Nat.le_of_ble_eq_true rfl)) dX1_lettingOf_73) (fun v73 => ?_)
            refine rk_callI hX (cl_S (rest := []) C (ct_X1_asNumber H v73) (lw_S q1579 q1580 q101 q1581) hd_X1_asNumber ⟨(Nat.le_of_ble_eq_true rfl), (Nat.le_of_ble_eq_true rfl)⟩ rfl hl.1 rfl (zw_le zw_nil (Nat.le_of_ble_eq_true rfl)) dX1_lettingOf_76) (fun v76 => ?_)
            refine rk_of (fun _ _ _ _ _ k => lv_goto (tgt := 97) hx hb dX1_lettingOf_79 (by decide) k) ?_
            exact rk_top (rf_iret C rfl dX1_lettingOf_97)
          · refine rk_case (fun c_7_5 => ?_) (fun c_7_5 => ?_)
            · refine rk_of (fun _ _ _ _ _ k => by rw [c_7_5]; exact lv_tableIn (off := 75) (tgt := 82) hx hb dX1_lettingOf_7 (by decide) (by decide) rfl (by decide) k) ?_
              refine rk_of (fun _ _ _ _ _ k => lr_aload_n hx hb dX1_lettingOf_82 rfl (lv_at hl 0 rfl) k) ?_
              refine rk_callI hX (cl_V (rest := []) (av := []) C (hc_X6 H) (ct_X6_coins H v2) (lw_V q1582 q1115 q1116 q137 q1117) ⟨rfl, hd_X6_coins⟩ ⟨(Nat.le_of_ble_eq_true rfl), (Nat.le_of_ble_eq_true rfl)⟩ rfl hl.1 rfl (zw_le zw_nil (Nat.le_of_ble_eq_true rfl)) dX1_lettingOf_83) (fun v83 => ?_)
              refine rk_of (fun _ _ _ _ _ k => lv_goto (tgt := 97) hx hb dX1_lettingOf_86 (by decide) k) ?_
              exact rk_top (rf_iret C rfl dX1_lettingOf_97)
            · have q_0 : (a2).toInt ≠ 0 := fun q => c_7_0 (zs_eq q rfl)
              have q_1 : (a2).toInt ≠ 1 := fun q => c_7_1 (zs_eq q rfl)
              have q_2 : (a2).toInt ≠ 2 := fun q => c_7_2 (zs_eq q rfl)
              have q_3 : (a2).toInt ≠ 3 := fun q => c_7_3 (zs_eq q rfl)
              have q_4 : (a2).toInt ≠ 4 := fun q => c_7_4 (zs_eq q rfl)
              have q_5 : (a2).toInt ≠ 5 := fun q => c_7_5 (zs_eq q rfl)
              refine rk_of (fun _ _ _ _ _ k => lv_tableOut (tgt := 89) hx hb dX1_lettingOf_7 (by omega) (by decide) k) ?_
              refine rk_new C (hc_J12 H) in_J12 tyJ12_ok q1138 q596 q116 (fs := [.null, .null, .null, .null, .null, .int 0]) rfl (fun j hj => zdf_J12 j hj) dX1_lettingOf_89 (fun v89 => ?_)
              refine rk_of (fun _ _ _ _ _ k => lv_dup hx hb dX1_lettingOf_92 (va_rf_cat _) k) ?_
              refine rk_callV hX (cl_I (rest := [va_rf (some v89)]) C (ct_J12_init_2 H (some v89)) (lw_meth q1141) q116 q1139 q1140 rfl hd_J12_init_2 ⟨(Nat.le_of_ble_eq_true rfl), (Nat.le_of_ble_eq_true rfl)⟩ rfl hl.1 rfl (zw_le (zw_R zw_nil) (Nat.le_of_ble_eq_true rfl)) dX1_lettingOf_93) (fun _ => ?_)
              exact rk_ath H C hX dX1_lettingOf_96
theorem hd_X0_lettingOf : yX0_lettingOf.cls ≠ "java/lang/invoke/MethodHandle" ∧ yX0_lettingOf.cls ≠ "java/lang/invoke/VarHandle" ∧ (parseMethodDescriptor yX0_lettingOf.desc).map (fun d => d.parameters.length) = some 4 := by decide +kernel
noncomputable def fn_X0_lettingOf (K : zm_K) (a0 : zm_R) (a1 : Int32) (a2 : Int32) (a3 : zm_R) : zm_M Int32 :=
  zm_cth (zm_bnd (zm_is a0 18) fun _ => fn_X1_lettingOf K a0 a1 a2) (fun (E5 : String) (q5 : Nat) =>
      if E5 ∈ (["java/lang/IndexOutOfBoundsException", "java/lang/ArrayIndexOutOfBoundsException", "java/lang/StringIndexOutOfBoundsException"] : List String) then
        zm_ret 1
      else
        if E5 ∈ (["java/lang/IllegalArgumentException"] : List String) then
          zm_ret 2
        else
          if E5 ∈ (["java/util/NoSuchElementException", "java/lang/UnsupportedOperationException", "java/lang/IllegalStateException", "java/lang/ArithmeticException", "BoxSpans$Refusal", "BoxSpans$TextError"] : List String) then
            zm_thr E5 q5
          else
            zm_fl
    ) fun v5 =>
  zm_bnd (zm_astJ K a3 0 ((v5).toInt64)) fun _ =>
  zm_ret 0
theorem ct_X0_lettingOf {l : Launch} {Ω : zm_W} {K : zm_K} (H : zm_H Ω K) (a0 : zm_R) (a1 : Int32) (a2 : Int32) (a3 : zm_R) : zm_Ct l Ω yX0_lettingOf (wsW_ yX0_lettingOf cX0_lettingOf 5 (Option.some Jvm.ClassFile.FieldType.int) [(0, 10, 13, 21), (0, 10, 17, 13)]) 13 319 [va_rf a0, .int a1, .int a2, va_rf a3] zm_tvI (fn_X0_lettingOf K a0 a1 a2 a3) := by
  refine zm_ctW H.1 (by decide +kernel) (zl_le (zl_R (zl_I (zl_I (zl_R zl_nil)))) (Nat.le_of_ble_eq_true rfl)) ?_
  intro p e R s m args below meth c n0 k0 C hN hT ls hl
  have hx := C.1
  have hb := C.2.1
  simp only [zg_I, zg_R, zg_nil] at hl
  have hl : lv_has ls 5 [(0, va_rf a0), (1, .int a1), (2, .int a2), (3, va_rf a3)] := hl
  refine rk_rf ?_
  unfold fn_X0_lettingOf
  refine rk_of (fun _ _ _ _ _ k => lr_aload_n hx hb dX0_lettingOf_0 rfl (lv_at hl 3 rfl) (lv_iconst (v := 0) hx hb dX0_lettingOf_1 rfl (lr_aload_n hx hb dX0_lettingOf_2 rfl (lv_at hl 0 rfl) (lv_iload_n hx hb dX0_lettingOf_3 rfl (lv_at hl 1 rfl) (lv_iload_n hx hb dX0_lettingOf_4 rfl (lv_at hl 2 rfl) k))))) ?_
  refine rk_cthI (cl_V (rest := [.int 0, va_rf a3]) (av := [.int a1, .int a2]) C (hc_X1 H) (ct_X1_lettingOf H a0 a1 a2) (lw_V q1570 q1571 q1572 q101 q1573) ⟨rfl, hd_X1_lettingOf⟩ ⟨(Nat.le_of_ble_eq_true rfl), (Nat.le_of_ble_eq_true rfl)⟩ rfl hl.1 rfl (zw_le (zw_I (zw_R zw_nil)) (Nat.le_of_ble_eq_true rfl)) dX0_lettingOf_5) (fun E5 q5 => ?_) (fun v5 => ?_)
  · refine rx_ite (fun h5_0 => ?_) (fun h5_0 => ?_)
    · refine rx_cat (k := 0) C hT rfl zp_nil ⟨by decide, by decide⟩ (by decide) q1373 ((zp_cons (P := fun E => (Cond.castable E "java/lang/IndexOutOfBoundsException").before args s = true) (zn_wC H C q360) (zp_cons (P := fun E => (Cond.castable E "java/lang/IndexOutOfBoundsException").before args s = true) (zn_wC H C q3093) (zp_cons (P := fun E => (Cond.castable E "java/lang/IndexOutOfBoundsException").before args s = true) (zn_wC H C q3094) zp_nil))) E5 h5_0) ?_
      refine rk_ofs (fun _ _ _ _ _ k => lr_astore hx hb dX0_lettingOf_13 hl (Nat.le_of_ble_eq_true rfl) [] rfl trivial k) (fun ls hl => ?_)
      refine rk_of (fun _ _ _ _ _ k => lv_iconst (v := 1) hx hb dX0_lettingOf_15 rfl k) ?_
      exact rk_top (rf_iret C rfl dX0_lettingOf_16)
    · refine rx_ite (fun h5_1 => ?_) (fun h5_1 => ?_)
      · refine rx_cat (k := 1) C hT rfl (zp_cons (Or.inr ⟨by decide, _, q1373, zh_ncs H C (L := ["java/lang/IllegalArgumentException"]) (by decide) h5_1⟩) zp_nil) ⟨by decide, by decide⟩ (by decide) q1126 ((zp_cons (P := fun E => (Cond.castable E "java/lang/IllegalArgumentException").before args s = true) (zn_wC H C q597) zp_nil) E5 h5_1) ?_
        refine rk_ofs (fun _ _ _ _ _ k => lr_astore hx hb dX0_lettingOf_17 hl (Nat.le_of_ble_eq_true rfl) [] rfl trivial k) (fun ls hl => ?_)
        refine rk_of (fun _ _ _ _ _ k => lv_iconst (v := 2) hx hb dX0_lettingOf_19 rfl k) ?_
        exact rk_top (rf_iret C rfl dX0_lettingOf_20)
      · refine rx_ite (fun h5_x => ?_) (fun _ => rx_fl)
        exact rx_out C hT (zp_cons (Or.inr ⟨by decide, _, q1373, zh_ncs H C (L := ["java/util/NoSuchElementException", "java/lang/UnsupportedOperationException", "java/lang/IllegalStateException", "java/lang/ArithmeticException", "BoxSpans$Refusal", "BoxSpans$TextError"]) (by decide) h5_x⟩) (zp_cons (Or.inr ⟨by decide, _, q1126, zh_ncs H C (L := ["java/util/NoSuchElementException", "java/lang/UnsupportedOperationException", "java/lang/IllegalStateException", "java/lang/ArithmeticException", "BoxSpans$Refusal", "BoxSpans$TextError"]) (by decide) h5_x⟩) zp_nil))
  refine rk_of (fun _ _ _ _ _ k => lv_i2l hx hb dX0_lettingOf_8 rfl k) ?_
  refine rk_last C H.2.2.1 dX0_lettingOf_9 ?_
  refine rk_of (fun _ _ _ _ _ k => lv_goto (tgt := 21) hx hb dX0_lettingOf_10 (by decide) (lv_iconst (v := 0) hx hb dX0_lettingOf_21 rfl k)) ?_
  exact rk_top (rf_iret C rfl dX0_lettingOf_22)
theorem hd_X1_requireMinute : yX1_requireMinute.cls ≠ "java/lang/invoke/MethodHandle" ∧ yX1_requireMinute.cls ≠ "java/lang/invoke/VarHandle" ∧ (parseMethodDescriptor yX1_requireMinute.desc).map (fun d => d.parameters.length) = some 1 := by decide +kernel
noncomputable def fn_X1_requireMinute (K : zm_K) (a0 : Int32) : zm_M Unit :=
  zm_bnd (fn_X1_isIn K a0 0 599) fun v5 =>
  zm_bnd (fn_X1_require K v5) fun _ =>
  zm_ret ()
theorem ct_X1_requireMinute {l : Launch} {Ω : zm_W} {K : zm_K} (H : zm_H Ω K) (a0 : Int32) : zm_Ct l Ω yX1_requireMinute (ws_ yX1_requireMinute cX1_requireMinute 1 (Option.none : Option Jvm.ClassFile.FieldType)) 9 228 [.int a0] zm_tvV (fn_X1_requireMinute K a0) := by
  refine zm_ct H.1 (by decide +kernel) (zl_le (zl_I zl_nil) (Nat.le_of_ble_eq_true rfl)) ?_
  intro p e R s m args below meth c n0 k0 C hX ls hl
  have hx := C.1
  have hb := C.2.1
  simp only [zg_I, zg_nil] at hl
  have hl : lv_has ls 1 [(0, .int a0)] := hl
  refine rk_rf ?_
  unfold fn_X1_requireMinute
  refine rk_of (fun _ _ _ _ _ k => lv_iload_n hx hb dX1_requireMinute_0 rfl (lv_at hl 0 rfl) (lv_iconst (v := 0) hx hb dX1_requireMinute_1 rfl (lv_sipush (v := 599) hx hb dX1_requireMinute_2 rfl k))) ?_
  refine rk_callI hX (cl_S (rest := []) C (ct_X1_isIn H a0 0 599) (lw_S q1132 q1133 q101 q1134) hd_X1_isIn ⟨(Nat.le_of_ble_eq_true rfl), (Nat.le_of_ble_eq_true rfl)⟩ rfl hl.1 rfl (zw_le zw_nil (Nat.le_of_ble_eq_true rfl)) dX1_requireMinute_5) (fun v5 => ?_)
  refine rk_callV hX (cl_S (rest := []) C (ct_X1_require H v5) (lw_S q1135 q1136 q101 q1137) hd_X1_require ⟨(Nat.le_of_ble_eq_true rfl), (Nat.le_of_ble_eq_true rfl)⟩ rfl hl.1 rfl (zw_le zw_nil (Nat.le_of_ble_eq_true rfl)) dX1_requireMinute_8) (fun _ => ?_)
  exact rk_top (rf_vret C dX1_requireMinute_11)
theorem hd_X2_at : yX2_at.cls ≠ "java/lang/invoke/MethodHandle" ∧ yX2_at.cls ≠ "java/lang/invoke/VarHandle" ∧ (parseMethodDescriptor yX2_at.desc).map (fun d => d.parameters.length) = some 2 := by decide +kernel
noncomputable def fn_X2_at_2 (K : zm_K) (p0 : zm_R) (p1 : Int32) (p2 : Int32) : Nat → Int32 → zm_M ((Unit) ⊕ (Int32))
  | 0, _ => zm_fl
  | n + 1, x3 =>
    zm_bnd (zm_getR p0 19 1) fun v4 =>
    zm_bnd (zm_bnd (zm_cls v4) fun ci => if ci = 0 then fn_J2_size K v4 else if ci = 1 then fn_J4_size K v4 else zm_fl) fun v7 =>
    if v7 ≤ x3 then
      zm_ret (Sum.inl ())
    else
      zm_bnd (zm_bnd (zm_is p0 19) fun _ => fn_X2_letting K p0 x3) fun v17 =>
      zm_bnd (zm_bnd (zm_is v17 23) fun _ => fn_X6_isIn K v17 p1) fun v21 =>
      zm_bnx (β := Unit) (
          if v21 = 0 then
            zm_ret (Sum.inl ())
          else
            zm_bnd (zm_bnd (zm_is p0 19) fun _ => fn_X2_letting K p0 x3) fun v29 =>
            zm_bnd (zm_bnd (zm_is v29 23) fun _ => fn_X7_has K v29 p2) fun v33 =>
            if v33 = 0 then
              zm_ret (Sum.inl ())
            else
              zm_ret (Sum.inr (Sum.inr x3))
        ) fun (_ : Unit) =>
      fn_X2_at_2 K p0 p1 p2 n (x3 + 1)
noncomputable def fn_X2_at (K : zm_K) (a0 : zm_R) (a1 : Int32) (a2 : Int32) : zm_M Int32 :=
  zm_bnx (β := Unit) (fn_X2_at_2 K a0 a1 a2 zm_N 0) fun (_ : Unit) =>
  zm_ret (-1)
theorem rf_X2_at_2 (H : zm_H Ω K) (C : zm_C p l R s m args meth c Ω lw_all cX2_at yX2_at.cls yX2_at.name 4 11 275 (Option.some Jvm.ClassFile.FieldType.int)) (hX : zm_XO p l e R s m args below meth c Ω n0 k0 (zm_QFs below args s Ω n0 k0 zm_tvI)) (p0 : zm_R) (p1 : Int32) (p2 : Int32) : ∀ (n : Nat) (x3 : Int32) (J : ((Unit) ⊕ (Int32)) → zm_M Int32) (ls : Array Slot), lv_has ls 4 [(0, va_rf p0), (1, .int p1), (2, .int p2), (3, .int x3)] → (∀ (b : Unit) (ls : Array Slot), lv_has ls 4 [] → zm_RK p l e R s m args below meth c Ω n0 k0 (zm_QFs below args s Ω n0 k0 zm_tvI) (zm_ret (Sum.inl b)) J (F0 m 47 ls [])) → (∀ (v : Int32) (g : JFrame), zm_RF p l e R s m args below meth c Ω n0 k0 (zm_QFs below args s Ω n0 k0 zm_tvI) (zm_ret v) g → zm_RK p l e R s m args below meth c Ω n0 k0 (zm_QFs below args s Ω n0 k0 zm_tvI) (zm_ret (Sum.inr v)) J g) → zm_RK p l e R s m args below meth c Ω n0 k0 (zm_QFs below args s Ω n0 k0 zm_tvI) (fn_X2_at_2 K p0 p1 p2 n x3) J (F0 m 2 ls []) := by
  have hx := C.1
  have hb := C.2.1
  intro n
  induction n with
  | zero => intro x3 J ls hl hJ hR; exact rk_fl
  | succ n ih =>
    intro x3 J ls hl hJ hR
    unfold fn_X2_at_2
    refine rk_of (fun _ _ _ _ _ k => lv_iload_n hx hb dX2_at_2 rfl (lv_at hl 3 rfl) (lr_aload_n hx hb dX2_at_3 rfl (lv_at hl 0 rfl) k)) ?_
    refine rk_get zm_rdR_eq C (hc_X2 H) (k := 1) (Nat.le_of_ble_eq_true rfl) in_X2 q198 (fun _ h => h) dX2_at_4 (fun v4 => ?_)
    refine rk_callI hX (cl_dsp (fun ci => cl_case (cl_F (n := 0) (rest := [.int x3]) (av := []) C (hc_J2 H) (ct_J2_size H v4) (lw_F q1054 q1057 q752 q105 q753) (zh_Fw H C (by decide) q1056 q1055 q1059 q1058 q309) (by decide +kernel) ⟨(Nat.le_of_ble_eq_true rfl), (Nat.le_of_ble_eq_true rfl)⟩ rfl hl.1 rfl (zw_le (zw_I zw_nil) (Nat.le_of_ble_eq_true rfl)) dX2_at_7) (cl_case (cl_F (n := 0) (rest := [.int x3]) (av := []) C (hc_J4 H) (ct_J4_size H v4) (lw_F q1054 q1060 q755 q107 q756) (zh_Fw H C (by decide) q1056 q1055 q1062 q1061 q336) (by decide +kernel) ⟨(Nat.le_of_ble_eq_true rfl), (Nat.le_of_ble_eq_true rfl)⟩ rfl hl.1 rfl (zw_le (zw_I zw_nil) (Nat.le_of_ble_eq_true rfl)) dX2_at_7) (cl_fl)))) (fun v7 => ?_)
    refine rk_ite (fun _ _ _ _ _ k1 k2 => lv_icmp_ge (tgt := 47) hx hb dX2_at_12 (by decide) k1 k2) (fun c_12 => ?_) (fun c_12 => ?_)
    · exact hJ () ls (lv_sub hl [] rfl)
    · refine rk_of (fun _ _ _ _ _ k => lr_aload_n hx hb dX2_at_15 rfl (lv_at hl 0 rfl) (lv_iload_n hx hb dX2_at_16 rfl (lv_at hl 3 rfl) k)) ?_
      refine rk_callR hX (cl_V (rest := []) (av := [.int x3]) C (hc_X2 H) (ct_X2_letting H p0 x3) (lw_V q1090 q1091 q1092 q102 q1093) ⟨rfl, hd_X2_letting⟩ ⟨(Nat.le_of_ble_eq_true rfl), (Nat.le_of_ble_eq_true rfl)⟩ rfl hl.1 rfl (zw_le zw_nil (Nat.le_of_ble_eq_true rfl)) dX2_at_17) (fun v17 => ?_)
      refine rk_of (fun _ _ _ _ _ k => lv_iload_n hx hb dX2_at_20 rfl (lv_at hl 1 rfl) k) ?_
      refine rk_callI hX (cl_V (rest := []) (av := [.int p1]) C (hc_X6 H) (ct_X6_isIn H v17 p1) (lw_V q1095 q1096 q1097 q137 q1098) ⟨rfl, hd_X6_isIn⟩ ⟨(Nat.le_of_ble_eq_true rfl), (Nat.le_of_ble_eq_true rfl)⟩ rfl hl.1 rfl (zw_le zw_nil (Nat.le_of_ble_eq_true rfl)) dX2_at_21) (fun v21 => ?_)
      refine rk_joinx (β := Unit) (fun (b41 : Unit) ls => lv_has ls 4 [(0, va_rf p0), (1, .int p1), (2, .int p2), (3, .int x3)]) (fun (b41 : Unit) ls => F0 m 41 ls []) (fun b41 ls hl => ?_) (fun hJ41 => ?_)
      · refine rk_ofs (fun _ _ _ _ _ k => lr_iinc (v := x3 + 1) hx hb dX2_at_41 hl (k := 3) rfl rfl (Nat.le_of_ble_eq_true rfl) [0, 1, 2] rfl ⟨trivial, ⟨trivial, ⟨rfl, trivial⟩⟩⟩ k) (fun ls hl => ?_)
        refine rk_of (fun _ _ _ _ _ k => lv_goto (tgt := 2) hx hb dX2_at_44 (by decide) k) ?_
        exact ih (x3 + 1) J ls (lv_sub hl [1, 2, 3, 0] rfl) hJ hR
      · refine rk_ite (fun _ _ _ _ _ k1 k2 => lv_if_eq (tgt := 41) hx hb dX2_at_24 (by decide) k1 k2) (fun c_24 => ?_) (fun c_24 => ?_)
        · exact hJ41 () ls (lv_sub hl [0, 1, 2, 3] rfl)
        · refine rk_of (fun _ _ _ _ _ k => lr_aload_n hx hb dX2_at_27 rfl (lv_at hl 0 rfl) (lv_iload_n hx hb dX2_at_28 rfl (lv_at hl 3 rfl) k)) ?_
          refine rk_callR hX (cl_V (rest := []) (av := [.int x3]) C (hc_X2 H) (ct_X2_letting H p0 x3) (lw_V q1090 q1091 q1092 q102 q1093) ⟨rfl, hd_X2_letting⟩ ⟨(Nat.le_of_ble_eq_true rfl), (Nat.le_of_ble_eq_true rfl)⟩ rfl hl.1 rfl (zw_le zw_nil (Nat.le_of_ble_eq_true rfl)) dX2_at_29) (fun v29 => ?_)
          refine rk_of (fun _ _ _ _ _ k => lv_iload_n hx hb dX2_at_32 rfl (lv_at hl 2 rfl) k) ?_
          refine rk_callI hX (cl_D (n := 1) (rest := []) (av := [.int p2]) C (hc_X6 H) (ct_X7_has H v29 p2) (lw_meth q999) q140 ((zh_df H).choose_spec.1 _ (List.mem_of_getElem? (i := 2) rfl)) ((zh_df H).choose_spec.1 _ (List.mem_of_getElem? (i := 3) rfl)) ((zh_df H).choose_spec.2 _ (List.mem_of_getElem? (i := 1) rfl)) (zn_wD H C q995) q997 (by decide) (by decide +kernel) ⟨(Nat.le_of_ble_eq_true rfl), (Nat.le_of_ble_eq_true rfl)⟩ rfl hl.1 rfl (zw_le zw_nil (Nat.le_of_ble_eq_true rfl)) dX2_at_33) (fun v33 => ?_)
          refine rk_ite (fun _ _ _ _ _ k1 k2 => lv_if_eq (tgt := 41) hx hb dX2_at_36 (by decide) k1 k2) (fun c_36 => ?_) (fun c_36 => ?_)
          · exact hJ41 () ls (lv_sub hl [0, 1, 2, 3] rfl)
          · refine rk_of (fun _ _ _ _ _ k => lv_iload_n hx hb dX2_at_39 rfl (lv_at hl 3 rfl) k) ?_
            refine rk_inr ?_
            exact hR _ _ (rf_iret C rfl dX2_at_40)
theorem ct_X2_at {l : Launch} {Ω : zm_W} {K : zm_K} (H : zm_H Ω K) (a0 : zm_R) (a1 : Int32) (a2 : Int32) : zm_Ct l Ω yX2_at (ws_ yX2_at cX2_at 4 (Option.some Jvm.ClassFile.FieldType.int)) 11 275 [va_rf a0, .int a1, .int a2] zm_tvI (fn_X2_at K a0 a1 a2) := by
  refine zm_ct H.1 (by decide +kernel) (zl_le (zl_R (zl_I (zl_I zl_nil))) (Nat.le_of_ble_eq_true rfl)) ?_
  intro p e R s m args below meth c n0 k0 C hX ls hl
  have hx := C.1
  have hb := C.2.1
  simp only [zg_I, zg_R, zg_nil] at hl
  have hl : lv_has ls 4 [(0, va_rf a0), (1, .int a1), (2, .int a2)] := hl
  refine rk_rf ?_
  unfold fn_X2_at
  refine rk_ofs (fun _ _ _ _ _ k => lv_iconst (v := 0) hx hb dX2_at_0 rfl (lr_istore_n hx hb dX2_at_1 rfl hl (Nat.le_of_ble_eq_true rfl) [0, 1, 2] rfl ⟨trivial, ⟨trivial, ⟨rfl, trivial⟩⟩⟩ k)) (fun ls hl => ?_)
  refine rk_joinx (β := Unit) (fun (b47 : Unit) ls => lv_has ls 4 []) (fun (b47 : Unit) ls => F0 m 47 ls []) (fun b47 ls hl => ?_) (fun hJ47 => ?_)
  · refine rk_of (fun _ _ _ _ _ k => lv_iconst (v := (-1)) hx hb dX2_at_47 rfl k) ?_
    exact rk_top (rf_iret C rfl dX2_at_48)
  · exact rf_X2_at_2 H C hX a0 a1 a2 zm_N 0 _ ls (lv_sub hl [1, 2, 3, 0] rfl) hJ47 (fun v g k9 => by
        refine rk_inr ?_
        exact rk_top (k9))
theorem hd_X1_at : yX1_at.cls ≠ "java/lang/invoke/MethodHandle" ∧ yX1_at.cls ≠ "java/lang/invoke/VarHandle" ∧ (parseMethodDescriptor yX1_at.desc).map (fun d => d.parameters.length) = some 2 := by decide +kernel
noncomputable def fn_X1_at (K : zm_K) (a0 : zm_R) (a1 : Int32) (a2 : Int32) : zm_M Int32 :=
  zm_bnd (zm_bnd (zm_is a0 18) fun _ => fn_X1_requireBox K a0 a1) fun _ =>
  zm_bnd (fn_X1_requireMinute K a2) fun _ =>
  zm_bnd (zm_getR a0 18 0) fun v10 =>
  zm_bnd (zm_bnd (zm_is v10 19) fun _ => fn_X2_at K v10 a1 a2) fun v15 =>
  zm_ret v15
theorem ct_X1_at {l : Launch} {Ω : zm_W} {K : zm_K} (H : zm_H Ω K) (a0 : zm_R) (a1 : Int32) (a2 : Int32) : zm_Ct l Ω yX1_at (ws_ yX1_at cX1_at 3 (Option.some Jvm.ClassFile.FieldType.int)) 12 298 [va_rf a0, .int a1, .int a2] zm_tvI (fn_X1_at K a0 a1 a2) := by
  refine zm_ct H.1 (by decide +kernel) (zl_le (zl_R (zl_I (zl_I zl_nil))) (Nat.le_of_ble_eq_true rfl)) ?_
  intro p e R s m args below meth c n0 k0 C hX ls hl
  have hx := C.1
  have hb := C.2.1
  simp only [zg_I, zg_R, zg_nil] at hl
  have hl : lv_has ls 3 [(0, va_rf a0), (1, .int a1), (2, .int a2)] := hl
  refine rk_rf ?_
  unfold fn_X1_at
  refine rk_of (fun _ _ _ _ _ k => lr_aload_n hx hb dX1_at_0 rfl (lv_at hl 0 rfl) (lv_iload_n hx hb dX1_at_1 rfl (lv_at hl 1 rfl) k)) ?_
  refine rk_callV hX (cl_V (rest := []) (av := [.int a1]) C (hc_X1 H) (ct_X1_requireBox H a0 a1) (lw_V q1393 q1395 qs15 q101 q1396) ⟨rfl, hd_X1_requireBox⟩ ⟨(Nat.le_of_ble_eq_true rfl), (Nat.le_of_ble_eq_true rfl)⟩ rfl hl.1 rfl (zw_le zw_nil (Nat.le_of_ble_eq_true rfl)) dX1_at_2) (fun _ => ?_)
  refine rk_of (fun _ _ _ _ _ k => lv_iload_n hx hb dX1_at_5 rfl (lv_at hl 2 rfl) k) ?_
  refine rk_callV hX (cl_S (rest := []) C (ct_X1_requireMinute H a2) (lw_S q1590 q1591 q101 q1592) hd_X1_requireMinute ⟨(Nat.le_of_ble_eq_true rfl), (Nat.le_of_ble_eq_true rfl)⟩ rfl hl.1 rfl (zw_le zw_nil (Nat.le_of_ble_eq_true rfl)) dX1_at_6) (fun _ => ?_)
  refine rk_of (fun _ _ _ _ _ k => lr_aload_n hx hb dX1_at_9 rfl (lv_at hl 0 rfl) k) ?_
  refine rk_get zm_rdR_eq C (hc_X1 H) (k := 0) (Nat.le_of_ble_eq_true rfl) in_X1 q271 (fun _ h => h) dX1_at_10 (fun v10 => ?_)
  refine rk_of (fun _ _ _ _ _ k => lv_iload_n hx hb dX1_at_13 rfl (lv_at hl 1 rfl) (lv_iload_n hx hb dX1_at_14 rfl (lv_at hl 2 rfl) k)) ?_
  refine rk_callI hX (cl_V (rest := []) (av := [.int a1, .int a2]) C (hc_X2 H) (ct_X2_at H v10 a1 a2) (lw_V q1593 q1594 q1595 q102 q1596) ⟨rfl, hd_X2_at⟩ ⟨(Nat.le_of_ble_eq_true rfl), (Nat.le_of_ble_eq_true rfl)⟩ rfl hl.1 rfl (zw_le zw_nil (Nat.le_of_ble_eq_true rfl)) dX1_at_15) (fun v15 => ?_)
  exact rk_top (rf_iret C rfl dX1_at_18)
theorem hd_X0_at : yX0_at.cls ≠ "java/lang/invoke/MethodHandle" ∧ yX0_at.cls ≠ "java/lang/invoke/VarHandle" ∧ (parseMethodDescriptor yX0_at.desc).map (fun d => d.parameters.length) = some 4 := by decide +kernel
noncomputable def fn_X0_at (K : zm_K) (a0 : zm_R) (a1 : Int32) (a2 : Int32) (a3 : zm_R) : zm_M Int32 :=
  zm_cth (zm_bnd (zm_is a0 18) fun _ => fn_X1_at K a0 a1 a2) (fun (E5 : String) (q5 : Nat) =>
      if E5 ∈ (["java/lang/IndexOutOfBoundsException", "java/lang/ArrayIndexOutOfBoundsException", "java/lang/StringIndexOutOfBoundsException"] : List String) then
        zm_ret 1
      else
        if E5 ∈ (["java/lang/IllegalArgumentException"] : List String) then
          zm_ret 2
        else
          if E5 ∈ (["java/util/NoSuchElementException", "java/lang/UnsupportedOperationException", "java/lang/IllegalStateException", "java/lang/ArithmeticException", "BoxSpans$Refusal", "BoxSpans$TextError"] : List String) then
            zm_thr E5 q5
          else
            zm_fl
    ) fun v5 =>
  zm_bnd (zm_astJ K a3 0 ((v5).toInt64)) fun _ =>
  zm_ret 0
theorem ct_X0_at {l : Launch} {Ω : zm_W} {K : zm_K} (H : zm_H Ω K) (a0 : zm_R) (a1 : Int32) (a2 : Int32) (a3 : zm_R) : zm_Ct l Ω yX0_at (wsW_ yX0_at cX0_at 5 (Option.some Jvm.ClassFile.FieldType.int) [(0, 10, 13, 21), (0, 10, 17, 13)]) 13 320 [va_rf a0, .int a1, .int a2, va_rf a3] zm_tvI (fn_X0_at K a0 a1 a2 a3) := by
  refine zm_ctW H.1 (by decide +kernel) (zl_le (zl_R (zl_I (zl_I (zl_R zl_nil)))) (Nat.le_of_ble_eq_true rfl)) ?_
  intro p e R s m args below meth c n0 k0 C hN hT ls hl
  have hx := C.1
  have hb := C.2.1
  simp only [zg_I, zg_R, zg_nil] at hl
  have hl : lv_has ls 5 [(0, va_rf a0), (1, .int a1), (2, .int a2), (3, va_rf a3)] := hl
  refine rk_rf ?_
  unfold fn_X0_at
  refine rk_of (fun _ _ _ _ _ k => lr_aload_n hx hb dX0_at_0 rfl (lv_at hl 3 rfl) (lv_iconst (v := 0) hx hb dX0_at_1 rfl (lr_aload_n hx hb dX0_at_2 rfl (lv_at hl 0 rfl) (lv_iload_n hx hb dX0_at_3 rfl (lv_at hl 1 rfl) (lv_iload_n hx hb dX0_at_4 rfl (lv_at hl 2 rfl) k))))) ?_
  refine rk_cthI (cl_V (rest := [.int 0, va_rf a3]) (av := [.int a1, .int a2]) C (hc_X1 H) (ct_X1_at H a0 a1 a2) (lw_V q1586 q1587 q1588 q101 q1589) ⟨rfl, hd_X1_at⟩ ⟨(Nat.le_of_ble_eq_true rfl), (Nat.le_of_ble_eq_true rfl)⟩ rfl hl.1 rfl (zw_le (zw_I (zw_R zw_nil)) (Nat.le_of_ble_eq_true rfl)) dX0_at_5) (fun E5 q5 => ?_) (fun v5 => ?_)
  · refine rx_ite (fun h5_0 => ?_) (fun h5_0 => ?_)
    · refine rx_cat (k := 0) C hT rfl zp_nil ⟨by decide, by decide⟩ (by decide) q1373 ((zp_cons (P := fun E => (Cond.castable E "java/lang/IndexOutOfBoundsException").before args s = true) (zn_wC H C q360) (zp_cons (P := fun E => (Cond.castable E "java/lang/IndexOutOfBoundsException").before args s = true) (zn_wC H C q3093) (zp_cons (P := fun E => (Cond.castable E "java/lang/IndexOutOfBoundsException").before args s = true) (zn_wC H C q3094) zp_nil))) E5 h5_0) ?_
      refine rk_ofs (fun _ _ _ _ _ k => lr_astore hx hb dX0_at_13 hl (Nat.le_of_ble_eq_true rfl) [] rfl trivial k) (fun ls hl => ?_)
      refine rk_of (fun _ _ _ _ _ k => lv_iconst (v := 1) hx hb dX0_at_15 rfl k) ?_
      exact rk_top (rf_iret C rfl dX0_at_16)
    · refine rx_ite (fun h5_1 => ?_) (fun h5_1 => ?_)
      · refine rx_cat (k := 1) C hT rfl (zp_cons (Or.inr ⟨by decide, _, q1373, zh_ncs H C (L := ["java/lang/IllegalArgumentException"]) (by decide) h5_1⟩) zp_nil) ⟨by decide, by decide⟩ (by decide) q1126 ((zp_cons (P := fun E => (Cond.castable E "java/lang/IllegalArgumentException").before args s = true) (zn_wC H C q597) zp_nil) E5 h5_1) ?_
        refine rk_ofs (fun _ _ _ _ _ k => lr_astore hx hb dX0_at_17 hl (Nat.le_of_ble_eq_true rfl) [] rfl trivial k) (fun ls hl => ?_)
        refine rk_of (fun _ _ _ _ _ k => lv_iconst (v := 2) hx hb dX0_at_19 rfl k) ?_
        exact rk_top (rf_iret C rfl dX0_at_20)
      · refine rx_ite (fun h5_x => ?_) (fun _ => rx_fl)
        exact rx_out C hT (zp_cons (Or.inr ⟨by decide, _, q1373, zh_ncs H C (L := ["java/util/NoSuchElementException", "java/lang/UnsupportedOperationException", "java/lang/IllegalStateException", "java/lang/ArithmeticException", "BoxSpans$Refusal", "BoxSpans$TextError"]) (by decide) h5_x⟩) (zp_cons (Or.inr ⟨by decide, _, q1126, zh_ncs H C (L := ["java/util/NoSuchElementException", "java/lang/UnsupportedOperationException", "java/lang/IllegalStateException", "java/lang/ArithmeticException", "BoxSpans$Refusal", "BoxSpans$TextError"]) (by decide) h5_x⟩) zp_nil))
  refine rk_of (fun _ _ _ _ _ k => lv_i2l hx hb dX0_at_8 rfl k) ?_
  refine rk_last C H.2.2.1 dX0_at_9 ?_
  refine rk_of (fun _ _ _ _ _ k => lv_goto (tgt := 21) hx hb dX0_at_10 (by decide) (lv_iconst (v := 0) hx hb dX0_at_21 rfl k)) ?_
  exact rk_top (rf_iret C rfl dX0_at_22)
theorem hd_X1_wish : yX1_wish.cls ≠ "java/lang/invoke/MethodHandle" ∧ yX1_wish.cls ≠ "java/lang/invoke/VarHandle" ∧ (parseMethodDescriptor yX1_wish.desc).map (fun d => d.parameters.length) = some 3 := by decide +kernel
noncomputable def fn_X1_wish (K : zm_K) (a0 : zm_R) (a1 : Int32) (a2 : Int32) (a3 : Int32) : zm_M Int32 :=
  zm_bnd (fn_X1_requireSpan K a1 a2 a3) fun _ =>
  zm_bnd (zm_new 22 [.int 0, .int 0]) fun v6 =>
  zm_bnd (fn_X5_init K (some v6) a2 a3) fun _ =>
  zm_bnd (zm_new 106 [.int a1, va_rf (some v6)]) fun v21 =>
  zm_bnd (zm_bnd (zm_is a0 18) fun _ => fn_X1_changed K a0 (some v21)) fun v26 =>
  zm_ret v26
theorem ct_X1_wish {l : Launch} {Ω : zm_W} {K : zm_K} (H : zm_H Ω K) (a0 : zm_R) (a1 : Int32) (a2 : Int32) (a3 : Int32) : zm_Ct l Ω yX1_wish (ws_ yX1_wish cX1_wish 5 (Option.some Jvm.ClassFile.FieldType.int)) 22 3200 [va_rf a0, .int a1, .int a2, .int a3] zm_tvI (fn_X1_wish K a0 a1 a2 a3) := by
  refine zm_ctN H.1 (by decide +kernel) (zl_le (zl_R (zl_I (zl_I (zl_I zl_nil)))) (Nat.le_of_ble_eq_true rfl)) ?_
  intro p e R s m args below meth c n0 k0 C hX hN ls hl
  have hx := C.1
  have hb := C.2.1
  simp only [zg_I, zg_R, zg_nil] at hl
  have hl : lv_has ls 5 [(0, va_rf a0), (1, .int a1), (2, .int a2), (3, .int a3)] := hl
  refine rk_rf ?_
  unfold fn_X1_wish
  refine rk_of (fun _ _ _ _ _ k => lv_iload_n hx hb dX1_wish_0 rfl (lv_at hl 1 rfl) (lv_iload_n hx hb dX1_wish_1 rfl (lv_at hl 2 rfl) (lv_iload_n hx hb dX1_wish_2 rfl (lv_at hl 3 rfl) k))) ?_
  refine rk_callV hX (cl_S (rest := []) C (ct_X1_requireSpan H a1 a2 a3) (lw_S q1406 q1407 q101 q1408) hd_X1_requireSpan ⟨(Nat.le_of_ble_eq_true rfl), (Nat.le_of_ble_eq_true rfl)⟩ rfl hl.1 rfl (zw_le zw_nil (Nat.le_of_ble_eq_true rfl)) dX1_wish_3) (fun _ => ?_)
  refine rk_new C (hc_X5 H) in_X5 tyX5_ok q1412 q808 q135 (fs := [.int 0, .int 0]) rfl (fun j hj => zdf_X5 j hj) dX1_wish_6 (fun v6 => ?_)
  refine rk_of (fun _ _ _ _ _ k => lv_dup hx hb dX1_wish_9 (va_rf_cat _) (lv_iload_n hx hb dX1_wish_10 rfl (lv_at hl 2 rfl) (lv_iload_n hx hb dX1_wish_11 rfl (lv_at hl 3 rfl) k))) ?_
  refine rk_callV hX (cl_I (rest := [va_rf (some v6)]) C (ct_X5_init H (some v6) a2 a3) (lw_meth q820) q135 q1413 q819 rfl hd_X5_init ⟨(Nat.le_of_ble_eq_true rfl), (Nat.le_of_ble_eq_true rfl)⟩ rfl hl.1 rfl (zw_le (zw_R zw_nil) (Nat.le_of_ble_eq_true rfl)) dX1_wish_12) (fun _ => ?_)
  refine rk_ofs (fun _ _ _ _ _ k => lr_astore hx hb dX1_wish_15 hl (Nat.le_of_ble_eq_true rfl) [0, 1] rfl ⟨trivial, ⟨trivial, trivial⟩⟩ k) (fun ls hl => ?_)
  refine rk_of (fun _ _ _ _ _ k => lr_aload_n hx hb dX1_wish_17 rfl (lv_at hl 1 rfl) (lv_iload_n hx hb dX1_wish_18 rfl (lv_at hl 2 rfl) (lr_aload hx hb dX1_wish_19 (lv_at hl 0 rfl) k))) ?_
  refine rk_lam H C hN (i := 6) rfl (by decide) zk_ok6 (zh_O H) (vals := [.int a1, va_rf (some v6)]) (rest := [va_rf a0]) rfl (zk_cons rfl (zk_cons (zn_R rfl _) zk_nil)) (zf_cons rfl (zf_cons (zp_R rfl _) zf_nil)) hl.1 rfl (zw_ad (zw_R (zw_I (zw_R zw_nil))) (Nat.le_of_ble_eq_true rfl)) dX1_wish_21 (fun v21 => ?_)
  refine rk_callI hX (cl_VX (rest := []) (av := [va_rf (some v21)]) C (hc_X1 H) (ct_X1_changed H a0 (some v21)) (lw_VW q1262 q1264 qs12 q101 q1265) ⟨rfl, hd_X1_changed⟩ ⟨(Nat.le_of_ble_eq_true rfl), (Nat.le_of_ble_eq_true rfl)⟩ rfl hl.1 rfl (zw_le zw_nil (Nat.le_of_ble_eq_true rfl)) dX1_wish_26) (fun v26 => ?_)
  exact rk_top (rf_iret C rfl dX1_wish_29)
theorem hd_X0_wish : yX0_wish.cls ≠ "java/lang/invoke/MethodHandle" ∧ yX0_wish.cls ≠ "java/lang/invoke/VarHandle" ∧ (parseMethodDescriptor yX0_wish.desc).map (fun d => d.parameters.length) = some 5 := by decide +kernel
noncomputable def fn_X0_wish (K : zm_K) (a0 : zm_R) (a1 : Int32) (a2 : Int32) (a3 : Int32) (a4 : zm_R) : zm_M Int32 :=
  zm_cth (zm_bnd (zm_is a0 18) fun _ => fn_X1_wish K a0 a1 a2 a3) (fun (E7 : String) (q7 : Nat) =>
      if E7 ∈ (["java/lang/IllegalArgumentException"] : List String) then
        zm_ret 1
      else
        if E7 ∈ (["java/lang/UnsupportedOperationException"] : List String) then
          zm_ret 2
        else
          if E7 ∈ (["java/lang/IndexOutOfBoundsException", "java/util/NoSuchElementException", "java/lang/ArrayIndexOutOfBoundsException", "java/lang/IllegalStateException", "java/lang/StringIndexOutOfBoundsException", "java/lang/ArithmeticException", "BoxSpans$Refusal", "BoxSpans$TextError"] : List String) then
            zm_thr E7 q7
          else
            zm_fl
    ) fun v7 =>
  zm_bnd (zm_astJ K a4 0 ((v7).toInt64)) fun _ =>
  zm_ret 0
theorem ct_X0_wish {l : Launch} {Ω : zm_W} {K : zm_K} (H : zm_H Ω K) (a0 : zm_R) (a1 : Int32) (a2 : Int32) (a3 : Int32) (a4 : zm_R) : zm_Ct l Ω yX0_wish (wsW_ yX0_wish cX0_wish 6 (Option.some Jvm.ClassFile.FieldType.int) [(0, 12, 15, 13), (0, 12, 19, 15)]) 23 3224 [va_rf a0, .int a1, .int a2, .int a3, va_rf a4] zm_tvI (fn_X0_wish K a0 a1 a2 a3 a4) := by
  refine zm_ctW H.1 (by decide +kernel) (zl_le (zl_R (zl_I (zl_I (zl_I (zl_R zl_nil))))) (Nat.le_of_ble_eq_true rfl)) ?_
  intro p e R s m args below meth c n0 k0 C hN hT ls hl
  have hx := C.1
  have hb := C.2.1
  simp only [zg_I, zg_R, zg_nil] at hl
  have hl : lv_has ls 6 [(0, va_rf a0), (1, .int a1), (2, .int a2), (3, .int a3), (4, va_rf a4)] := hl
  refine rk_rf ?_
  unfold fn_X0_wish
  refine rk_of (fun _ _ _ _ _ k => lr_aload hx hb dX0_wish_0 (lv_at hl 4 rfl) (lv_iconst (v := 0) hx hb dX0_wish_2 rfl (lr_aload_n hx hb dX0_wish_3 rfl (lv_at hl 0 rfl) (lv_iload_n hx hb dX0_wish_4 rfl (lv_at hl 1 rfl) (lv_iload_n hx hb dX0_wish_5 rfl (lv_at hl 2 rfl) (lv_iload_n hx hb dX0_wish_6 rfl (lv_at hl 3 rfl) k)))))) ?_
  refine rk_cthI (cl_V (rest := [.int 0, va_rf a4]) (av := [.int a1, .int a2, .int a3]) C (hc_X1 H) (ct_X1_wish H a0 a1 a2 a3) (lw_V q1600 q1601 q1602 q101 q1603) ⟨rfl, hd_X1_wish⟩ ⟨(Nat.le_of_ble_eq_true rfl), (Nat.le_of_ble_eq_true rfl)⟩ rfl hl.1 rfl (zw_le (zw_I (zw_R zw_nil)) (Nat.le_of_ble_eq_true rfl)) dX0_wish_7) (fun E7 q7 => ?_) (fun v7 => ?_)
  · refine rx_ite (fun h7_0 => ?_) (fun h7_0 => ?_)
    · refine rx_cat (k := 0) C hT rfl zp_nil ⟨by decide, by decide⟩ (by decide) q1126 ((zp_cons (P := fun E => (Cond.castable E "java/lang/IllegalArgumentException").before args s = true) (zn_wC H C q597) zp_nil) E7 h7_0) ?_
      refine rk_ofs (fun _ _ _ _ _ k => lr_astore hx hb dX0_wish_15 hl (Nat.le_of_ble_eq_true rfl) [] rfl trivial k) (fun ls hl => ?_)
      refine rk_of (fun _ _ _ _ _ k => lv_iconst (v := 1) hx hb dX0_wish_17 rfl k) ?_
      exact rk_top (rf_iret C rfl dX0_wish_18)
    · refine rx_ite (fun h7_1 => ?_) (fun h7_1 => ?_)
      · refine rx_cat (k := 1) C hT rfl (zp_cons (Or.inr ⟨by decide, _, q1126, zh_ncs H C (L := ["java/lang/UnsupportedOperationException"]) (by decide) h7_1⟩) zp_nil) ⟨by decide, by decide⟩ (by decide) q1127 ((zp_cons (P := fun E => (Cond.castable E "java/lang/UnsupportedOperationException").before args s = true) (zn_wC H C q1357) zp_nil) E7 h7_1) ?_
        refine rk_ofs (fun _ _ _ _ _ k => lr_astore hx hb dX0_wish_19 hl (Nat.le_of_ble_eq_true rfl) [] rfl trivial k) (fun ls hl => ?_)
        refine rk_of (fun _ _ _ _ _ k => lv_iconst (v := 2) hx hb dX0_wish_21 rfl k) ?_
        exact rk_top (rf_iret C rfl dX0_wish_22)
      · refine rx_ite (fun h7_x => ?_) (fun _ => rx_fl)
        exact rx_out C hT (zp_cons (Or.inr ⟨by decide, _, q1126, zh_ncs H C (L := ["java/lang/IndexOutOfBoundsException", "java/util/NoSuchElementException", "java/lang/ArrayIndexOutOfBoundsException", "java/lang/IllegalStateException", "java/lang/StringIndexOutOfBoundsException", "java/lang/ArithmeticException", "BoxSpans$Refusal", "BoxSpans$TextError"]) (by decide) h7_x⟩) (zp_cons (Or.inr ⟨by decide, _, q1127, zh_ncs H C (L := ["java/lang/IndexOutOfBoundsException", "java/util/NoSuchElementException", "java/lang/ArrayIndexOutOfBoundsException", "java/lang/IllegalStateException", "java/lang/StringIndexOutOfBoundsException", "java/lang/ArithmeticException", "BoxSpans$Refusal", "BoxSpans$TextError"]) (by decide) h7_x⟩) zp_nil))
  refine rk_of (fun _ _ _ _ _ k => lv_i2l hx hb dX0_wish_10 rfl k) ?_
  refine rk_last C H.2.2.1 dX0_wish_11 ?_
  refine rk_of (fun _ _ _ _ _ k => lv_goto (tgt := 23) hx hb dX0_wish_12 (by decide) (lv_iconst (v := 0) hx hb dX0_wish_23 rfl k)) ?_
  exact rk_top (rf_iret C rfl dX0_wish_24)
theorem hd_X1_drop : yX1_drop.cls ≠ "java/lang/invoke/MethodHandle" ∧ yX1_drop.cls ≠ "java/lang/invoke/VarHandle" ∧ (parseMethodDescriptor yX1_drop.desc).map (fun d => d.parameters.length) = some 1 := by decide +kernel
noncomputable def fn_X1_drop (K : zm_K) (a0 : zm_R) (a1 : Int32) : zm_M Int32 :=
  zm_bnd (zm_getR a0 18 0) fun v2 =>
  zm_bnd (zm_bnd (zm_is v2 19) fun _ => fn_X2_wishes_2 K v2) fun v5 =>
  zm_bnd (zm_bnd (zm_cls v5) fun ci => if ci = 0 then fn_J2_size K v5 else if ci = 1 then fn_J4_size K v5 else zm_fl) fun v8 =>
  zm_bnd (fn_X1_requireIndex K a1 v8) fun _ =>
  zm_bnd (zm_new 107 [.int a1]) fun v18 =>
  zm_bnd (zm_bnd (zm_is a0 18) fun _ => fn_X1_changed K a0 (some v18)) fun v23 =>
  zm_ret v23
theorem ct_X1_drop {l : Launch} {Ω : zm_W} {K : zm_K} (H : zm_H Ω K) (a0 : zm_R) (a1 : Int32) : zm_Ct l Ω yX1_drop (ws_ yX1_drop cX1_drop 2 (Option.some Jvm.ClassFile.FieldType.int)) 22 3200 [va_rf a0, .int a1] zm_tvI (fn_X1_drop K a0 a1) := by
  refine zm_ctN H.1 (by decide +kernel) (zl_le (zl_R (zl_I zl_nil)) (Nat.le_of_ble_eq_true rfl)) ?_
  intro p e R s m args below meth c n0 k0 C hX hN ls hl
  have hx := C.1
  have hb := C.2.1
  simp only [zg_I, zg_R, zg_nil] at hl
  have hl : lv_has ls 2 [(0, va_rf a0), (1, .int a1)] := hl
  refine rk_rf ?_
  unfold fn_X1_drop
  refine rk_of (fun _ _ _ _ _ k => lv_iload_n hx hb dX1_drop_0 rfl (lv_at hl 1 rfl) (lr_aload_n hx hb dX1_drop_1 rfl (lv_at hl 0 rfl) k)) ?_
  refine rk_get zm_rdR_eq C (hc_X1 H) (k := 0) (Nat.le_of_ble_eq_true rfl) in_X1 q271 (fun _ h => h) dX1_drop_2 (fun v2 => ?_)
  refine rk_callR hX (cl_V (rest := [.int a1]) (av := []) C (hc_X2 H) (ct_X2_wishes_2 H v2) (lw_V q1628 q1629 q1630 q102 q1631) ⟨rfl, hd_X2_wishes_2⟩ ⟨(Nat.le_of_ble_eq_true rfl), (Nat.le_of_ble_eq_true rfl)⟩ rfl hl.1 rfl (zw_le (zw_I zw_nil) (Nat.le_of_ble_eq_true rfl)) dX1_drop_5) (fun v5 => ?_)
  refine rk_callI hX (cl_dsp (fun ci => cl_case (cl_F (n := 0) (rest := [.int a1]) (av := []) C (hc_J2 H) (ct_J2_size H v5) (lw_F q1462 q1057 q752 q105 q753) (zh_Fw H C (by decide) q1056 q1055 q1059 q1058 q309) (by decide +kernel) ⟨(Nat.le_of_ble_eq_true rfl), (Nat.le_of_ble_eq_true rfl)⟩ rfl hl.1 rfl (zw_le (zw_I zw_nil) (Nat.le_of_ble_eq_true rfl)) dX1_drop_8) (cl_case (cl_F (n := 0) (rest := [.int a1]) (av := []) C (hc_J4 H) (ct_J4_size H v5) (lw_F q1462 q1060 q755 q107 q756) (zh_Fw H C (by decide) q1056 q1055 q1062 q1061 q336) (by decide +kernel) ⟨(Nat.le_of_ble_eq_true rfl), (Nat.le_of_ble_eq_true rfl)⟩ rfl hl.1 rfl (zw_le (zw_I zw_nil) (Nat.le_of_ble_eq_true rfl)) dX1_drop_8) (cl_fl)))) (fun v8 => ?_)
  refine rk_callV hX (cl_S (rest := []) C (ct_X1_requireIndex H a1 v8) (lw_S q1398 q1399 q101 q1400) hd_X1_requireIndex ⟨(Nat.le_of_ble_eq_true rfl), (Nat.le_of_ble_eq_true rfl)⟩ rfl hl.1 rfl (zw_le zw_nil (Nat.le_of_ble_eq_true rfl)) dX1_drop_13) (fun _ => ?_)
  refine rk_of (fun _ _ _ _ _ k => lr_aload_n hx hb dX1_drop_16 rfl (lv_at hl 0 rfl) (lv_iload_n hx hb dX1_drop_17 rfl (lv_at hl 1 rfl) k)) ?_
  refine rk_lam H C hN (i := 7) rfl (by decide) zk_ok7 (zh_O H) (vals := [.int a1]) (rest := [va_rf a0]) rfl (zk_cons rfl zk_nil) (zf_cons rfl zf_nil) hl.1 rfl (zw_ad (zw_I (zw_R zw_nil)) (Nat.le_of_ble_eq_true rfl)) dX1_drop_18 (fun v18 => ?_)
  refine rk_callI hX (cl_VX (rest := []) (av := [va_rf (some v18)]) C (hc_X1 H) (ct_X1_changed H a0 (some v18)) (lw_VW q1262 q1264 qs12 q101 q1265) ⟨rfl, hd_X1_changed⟩ ⟨(Nat.le_of_ble_eq_true rfl), (Nat.le_of_ble_eq_true rfl)⟩ rfl hl.1 rfl (zw_le zw_nil (Nat.le_of_ble_eq_true rfl)) dX1_drop_23) (fun v23 => ?_)
  exact rk_top (rf_iret C rfl dX1_drop_26)
theorem hd_X0_drop : yX0_drop.cls ≠ "java/lang/invoke/MethodHandle" ∧ yX0_drop.cls ≠ "java/lang/invoke/VarHandle" ∧ (parseMethodDescriptor yX0_drop.desc).map (fun d => d.parameters.length) = some 3 := by decide +kernel
noncomputable def fn_X0_drop (K : zm_K) (a0 : zm_R) (a1 : Int32) (a2 : zm_R) : zm_M Int32 :=
  zm_cth (zm_bnd (zm_is a0 18) fun _ => fn_X1_drop K a0 a1) (fun (E4 : String) (q4 : Nat) =>
      if E4 ∈ (["java/lang/IndexOutOfBoundsException", "java/lang/ArrayIndexOutOfBoundsException", "java/lang/StringIndexOutOfBoundsException"] : List String) then
        zm_ret 1
      else
        if E4 ∈ (["java/lang/IllegalArgumentException", "java/util/NoSuchElementException", "java/lang/UnsupportedOperationException", "java/lang/IllegalStateException", "java/lang/ArithmeticException", "BoxSpans$Refusal", "BoxSpans$TextError"] : List String) then
          zm_thr E4 q4
        else
          zm_fl
    ) fun v4 =>
  zm_bnd (zm_astJ K a2 0 ((v4).toInt64)) fun _ =>
  zm_ret 0
theorem ct_X0_drop {l : Launch} {Ω : zm_W} {K : zm_K} (H : zm_H Ω K) (a0 : zm_R) (a1 : Int32) (a2 : zm_R) : zm_Ct l Ω yX0_drop (wsW_ yX0_drop cX0_drop 4 (Option.some Jvm.ClassFile.FieldType.int) [(0, 9, 12, 21)]) 23 3221 [va_rf a0, .int a1, va_rf a2] zm_tvI (fn_X0_drop K a0 a1 a2) := by
  refine zm_ctW H.1 (by decide +kernel) (zl_le (zl_R (zl_I (zl_R zl_nil))) (Nat.le_of_ble_eq_true rfl)) ?_
  intro p e R s m args below meth c n0 k0 C hN hT ls hl
  have hx := C.1
  have hb := C.2.1
  simp only [zg_I, zg_R, zg_nil] at hl
  have hl : lv_has ls 4 [(0, va_rf a0), (1, .int a1), (2, va_rf a2)] := hl
  refine rk_rf ?_
  unfold fn_X0_drop
  refine rk_of (fun _ _ _ _ _ k => lr_aload_n hx hb dX0_drop_0 rfl (lv_at hl 2 rfl) (lv_iconst (v := 0) hx hb dX0_drop_1 rfl (lr_aload_n hx hb dX0_drop_2 rfl (lv_at hl 0 rfl) (lv_iload_n hx hb dX0_drop_3 rfl (lv_at hl 1 rfl) k)))) ?_
  refine rk_cthI (cl_V (rest := [.int 0, va_rf a2]) (av := [.int a1]) C (hc_X1 H) (ct_X1_drop H a0 a1) (lw_V q1624 q1625 q1626 q101 q1627) ⟨rfl, hd_X1_drop⟩ ⟨(Nat.le_of_ble_eq_true rfl), (Nat.le_of_ble_eq_true rfl)⟩ rfl hl.1 rfl (zw_le (zw_I (zw_R zw_nil)) (Nat.le_of_ble_eq_true rfl)) dX0_drop_4) (fun E4 q4 => ?_) (fun v4 => ?_)
  · refine rx_ite (fun h4_0 => ?_) (fun h4_0 => ?_)
    · refine rx_cat (k := 0) C hT rfl zp_nil ⟨by decide, by decide⟩ (by decide) q1373 ((zp_cons (P := fun E => (Cond.castable E "java/lang/IndexOutOfBoundsException").before args s = true) (zn_wC H C q360) (zp_cons (P := fun E => (Cond.castable E "java/lang/IndexOutOfBoundsException").before args s = true) (zn_wC H C q3093) (zp_cons (P := fun E => (Cond.castable E "java/lang/IndexOutOfBoundsException").before args s = true) (zn_wC H C q3094) zp_nil))) E4 h4_0) ?_
      refine rk_ofs (fun _ _ _ _ _ k => lr_astore_n hx hb dX0_drop_12 rfl hl (Nat.le_of_ble_eq_true rfl) [] rfl trivial k) (fun ls hl => ?_)
      refine rk_of (fun _ _ _ _ _ k => lv_iconst (v := 1) hx hb dX0_drop_13 rfl k) ?_
      exact rk_top (rf_iret C rfl dX0_drop_14)
    · refine rx_ite (fun h4_x => ?_) (fun _ => rx_fl)
      exact rx_out C hT (zp_cons (Or.inr ⟨by decide, _, q1373, zh_ncs H C (L := ["java/lang/IllegalArgumentException", "java/util/NoSuchElementException", "java/lang/UnsupportedOperationException", "java/lang/IllegalStateException", "java/lang/ArithmeticException", "BoxSpans$Refusal", "BoxSpans$TextError"]) (by decide) h4_x⟩) zp_nil)
  refine rk_of (fun _ _ _ _ _ k => lv_i2l hx hb dX0_drop_7 rfl k) ?_
  refine rk_last C H.2.2.1 dX0_drop_8 ?_
  refine rk_of (fun _ _ _ _ _ k => lv_goto (tgt := 15) hx hb dX0_drop_9 (by decide) (lv_iconst (v := 0) hx hb dX0_drop_15 rfl k)) ?_
  exact rk_top (rf_iret C rfl dX0_drop_16)
theorem hd_X1_wishOf : yX1_wishOf.cls ≠ "java/lang/invoke/MethodHandle" ∧ yX1_wishOf.cls ≠ "java/lang/invoke/VarHandle" ∧ (parseMethodDescriptor yX1_wishOf.desc).map (fun d => d.parameters.length) = some 2 := by decide +kernel
noncomputable def fn_X1_wishOf (K : zm_K) (a0 : zm_R) (a1 : Int32) (a2 : Int32) : zm_M Int32 :=
  zm_bnd (zm_getR a0 18 0) fun v2 =>
  zm_bnd (zm_bnd (zm_is v2 19) fun _ => fn_X2_wishes_2 K v2) fun v5 =>
  zm_bnd (zm_bnd (zm_cls v5) fun ci => if ci = 0 then fn_J2_size K v5 else if ci = 1 then fn_J4_size K v5 else zm_fl) fun v8 =>
  zm_bnd (fn_X1_requireIndex K a1 v8) fun _ =>
  zm_bnd (zm_getR a0 18 0) fun v17 =>
  zm_bnd (zm_bnd (zm_is v17 19) fun _ => fn_X2_wishes_2 K v17) fun v20 =>
  zm_bnd (zm_bnd (zm_cls v20) fun ci => if ci = 0 then fn_J2_get K v20 a1 else if ci = 1 then fn_J4_get K v20 a1 else zm_fl) fun v24 =>
  zm_bnd (zm_chk [24] [] v24) fun _ =>
  if a2 = 0 then
    zm_bnd (zm_bnd (zm_is v24 24) fun _ => fn_X8_from K v24) fun v61 =>
    zm_ret v61
  else
    if a2 = 1 then
      zm_bnd (zm_bnd (zm_is v24 24) fun _ => fn_X8_to K v24) fun v68 =>
      zm_ret v68
    else
      if a2 = 2 then
        zm_bnd (zm_bnd (zm_is v24 24) fun _ => fn_X8_party K v24) fun v75 =>
        zm_ret v75
      else
        zm_bnd (zm_new 5 [.null, .null, .null, .null, .null, .int 0]) fun v81 =>
        zm_bnd (fn_J12_init_2 K (some v81)) fun _ =>
        zm_ath (some v81)
theorem ct_X1_wishOf {l : Launch} {Ω : zm_W} {K : zm_K} (H : zm_H Ω K) (a0 : zm_R) (a1 : Int32) (a2 : Int32) : zm_Ct l Ω yX1_wishOf (ws_ yX1_wishOf cX1_wishOf 4 (Option.some Jvm.ClassFile.FieldType.int)) 10 254 [va_rf a0, .int a1, .int a2] zm_tvI (fn_X1_wishOf K a0 a1 a2) := by
  refine zm_ct H.1 (by decide +kernel) (zl_le (zl_R (zl_I (zl_I zl_nil))) (Nat.le_of_ble_eq_true rfl)) ?_
  intro p e R s m args below meth c n0 k0 C hX ls hl
  have hx := C.1
  have hb := C.2.1
  simp only [zg_I, zg_R, zg_nil] at hl
  have hl : lv_has ls 4 [(0, va_rf a0), (1, .int a1), (2, .int a2)] := hl
  refine rk_rf ?_
  unfold fn_X1_wishOf
  refine rk_of (fun _ _ _ _ _ k => lv_iload_n hx hb dX1_wishOf_0 rfl (lv_at hl 1 rfl) (lr_aload_n hx hb dX1_wishOf_1 rfl (lv_at hl 0 rfl) k)) ?_
  refine rk_get zm_rdR_eq C (hc_X1 H) (k := 0) (Nat.le_of_ble_eq_true rfl) in_X1 q271 (fun _ h => h) dX1_wishOf_2 (fun v2 => ?_)
  refine rk_callR hX (cl_V (rest := [.int a1]) (av := []) C (hc_X2 H) (ct_X2_wishes_2 H v2) (lw_V q1628 q1629 q1630 q102 q1631) ⟨rfl, hd_X2_wishes_2⟩ ⟨(Nat.le_of_ble_eq_true rfl), (Nat.le_of_ble_eq_true rfl)⟩ rfl hl.1 rfl (zw_le (zw_I zw_nil) (Nat.le_of_ble_eq_true rfl)) dX1_wishOf_5) (fun v5 => ?_)
  refine rk_callI hX (cl_dsp (fun ci => cl_case (cl_F (n := 0) (rest := [.int a1]) (av := []) C (hc_J2 H) (ct_J2_size H v5) (lw_F q1462 q1057 q752 q105 q753) (zh_Fw H C (by decide) q1056 q1055 q1059 q1058 q309) (by decide +kernel) ⟨(Nat.le_of_ble_eq_true rfl), (Nat.le_of_ble_eq_true rfl)⟩ rfl hl.1 rfl (zw_le (zw_I zw_nil) (Nat.le_of_ble_eq_true rfl)) dX1_wishOf_8) (cl_case (cl_F (n := 0) (rest := [.int a1]) (av := []) C (hc_J4 H) (ct_J4_size H v5) (lw_F q1462 q1060 q755 q107 q756) (zh_Fw H C (by decide) q1056 q1055 q1062 q1061 q336) (by decide +kernel) ⟨(Nat.le_of_ble_eq_true rfl), (Nat.le_of_ble_eq_true rfl)⟩ rfl hl.1 rfl (zw_le (zw_I zw_nil) (Nat.le_of_ble_eq_true rfl)) dX1_wishOf_8) (cl_fl)))) (fun v8 => ?_)
  refine rk_callV hX (cl_S (rest := []) C (ct_X1_requireIndex H a1 v8) (lw_S q1398 q1399 q101 q1400) hd_X1_requireIndex ⟨(Nat.le_of_ble_eq_true rfl), (Nat.le_of_ble_eq_true rfl)⟩ rfl hl.1 rfl (zw_le zw_nil (Nat.le_of_ble_eq_true rfl)) dX1_wishOf_13) (fun _ => ?_)
  refine rk_of (fun _ _ _ _ _ k => lr_aload_n hx hb dX1_wishOf_16 rfl (lv_at hl 0 rfl) k) ?_
  refine rk_get zm_rdR_eq C (hc_X1 H) (k := 0) (Nat.le_of_ble_eq_true rfl) in_X1 q271 (fun _ h => h) dX1_wishOf_17 (fun v17 => ?_)
  refine rk_callR hX (cl_V (rest := []) (av := []) C (hc_X2 H) (ct_X2_wishes_2 H v17) (lw_V q1628 q1629 q1630 q102 q1631) ⟨rfl, hd_X2_wishes_2⟩ ⟨(Nat.le_of_ble_eq_true rfl), (Nat.le_of_ble_eq_true rfl)⟩ rfl hl.1 rfl (zw_le zw_nil (Nat.le_of_ble_eq_true rfl)) dX1_wishOf_20) (fun v20 => ?_)
  refine rk_of (fun _ _ _ _ _ k => lv_iload_n hx hb dX1_wishOf_23 rfl (lv_at hl 1 rfl) k) ?_
  refine rk_callR hX (cl_dsp (fun ci => cl_case (cl_F (n := 1) (rest := []) (av := [.int a1]) C (hc_J2 H) (ct_J2_get H v20 a1) (lw_F q1668 q1067 q847 q105 q848) (zh_Fw H C (by decide) q1066 q1065 q1069 q1068 q309) (by decide +kernel) ⟨(Nat.le_of_ble_eq_true rfl), (Nat.le_of_ble_eq_true rfl)⟩ rfl hl.1 rfl (zw_le zw_nil (Nat.le_of_ble_eq_true rfl)) dX1_wishOf_24) (cl_case (cl_F (n := 1) (rest := []) (av := [.int a1]) C (hc_J4 H) (ct_J4_get H v20 a1) (lw_F q1668 q1070 q860 q107 q861) (zh_Fw H C (by decide) q1066 q1065 q1072 q1071 q336) (by decide +kernel) ⟨(Nat.le_of_ble_eq_true rfl), (Nat.le_of_ble_eq_true rfl)⟩ rfl hl.1 rfl (zw_le zw_nil (Nat.le_of_ble_eq_true rfl)) dX1_wishOf_24) (cl_fl)))) (fun v24 => ?_)
  refine rk_chk C q1669 (zc_cons (zc_s (hc_X8 H)) zc_nil) zp_nil dX1_wishOf_29 ?_
  refine rk_ofs (fun _ _ _ _ _ k => lr_astore_n hx hb dX1_wishOf_32 rfl hl (Nat.le_of_ble_eq_true rfl) [2] rfl ⟨rfl, trivial⟩ k) (fun ls hl => ?_)
  refine rk_of (fun _ _ _ _ _ k => lv_iload_n hx hb dX1_wishOf_33 rfl (lv_at hl 1 rfl) k) ?_
  refine rk_case (fun c_34_0 => ?_) (fun c_34_0 => ?_)
  · refine rk_of (fun _ _ _ _ _ k => by rw [c_34_0]; exact lv_tableIn (off := 26) (tgt := 60) hx hb dX1_wishOf_34 (by decide) (by decide) rfl (by decide) k) ?_
    refine rk_of (fun _ _ _ _ _ k => lr_aload_n hx hb dX1_wishOf_60 rfl (lv_at hl 0 rfl) k) ?_
    refine rk_callI hX (cl_V (rest := []) (av := []) C (hc_X8 H) (ct_X8_from H v24) (lw_V q1670 q1021 q3079 q141 q1023) ⟨rfl, hd_X8_from⟩ ⟨(Nat.le_of_ble_eq_true rfl), (Nat.le_of_ble_eq_true rfl)⟩ rfl hl.1 rfl (zw_le zw_nil (Nat.le_of_ble_eq_true rfl)) dX1_wishOf_61) (fun v61 => ?_)
    refine rk_of (fun _ _ _ _ _ k => lv_goto (tgt := 89) hx hb dX1_wishOf_64 (by decide) k) ?_
    exact rk_top (rf_iret C rfl dX1_wishOf_89)
  · refine rk_case (fun c_34_1 => ?_) (fun c_34_1 => ?_)
    · refine rk_of (fun _ _ _ _ _ k => by rw [c_34_1]; exact lv_tableIn (off := 33) (tgt := 67) hx hb dX1_wishOf_34 (by decide) (by decide) rfl (by decide) k) ?_
      refine rk_of (fun _ _ _ _ _ k => lr_aload_n hx hb dX1_wishOf_67 rfl (lv_at hl 0 rfl) k) ?_
      refine rk_callI hX (cl_V (rest := []) (av := []) C (hc_X8 H) (ct_X8_to H v24) (lw_V q1671 q1040 q3080 q141 q1042) ⟨rfl, hd_X8_to⟩ ⟨(Nat.le_of_ble_eq_true rfl), (Nat.le_of_ble_eq_true rfl)⟩ rfl hl.1 rfl (zw_le zw_nil (Nat.le_of_ble_eq_true rfl)) dX1_wishOf_68) (fun v68 => ?_)
      refine rk_of (fun _ _ _ _ _ k => lv_goto (tgt := 89) hx hb dX1_wishOf_71 (by decide) k) ?_
      exact rk_top (rf_iret C rfl dX1_wishOf_89)
    · refine rk_case (fun c_34_2 => ?_) (fun c_34_2 => ?_)
      · refine rk_of (fun _ _ _ _ _ k => by rw [c_34_2]; exact lv_tableIn (off := 40) (tgt := 74) hx hb dX1_wishOf_34 (by decide) (by decide) rfl (by decide) k) ?_
        refine rk_of (fun _ _ _ _ _ k => lr_aload_n hx hb dX1_wishOf_74 rfl (lv_at hl 0 rfl) k) ?_
        refine rk_callI hX (cl_V (rest := []) (av := []) C (hc_X8 H) (ct_X8_party H v24) (lw_V q1672 q1673 q1674 q141 q1675) ⟨rfl, hd_X8_party⟩ ⟨(Nat.le_of_ble_eq_true rfl), (Nat.le_of_ble_eq_true rfl)⟩ rfl hl.1 rfl (zw_le zw_nil (Nat.le_of_ble_eq_true rfl)) dX1_wishOf_75) (fun v75 => ?_)
        refine rk_of (fun _ _ _ _ _ k => lv_goto (tgt := 89) hx hb dX1_wishOf_78 (by decide) k) ?_
        exact rk_top (rf_iret C rfl dX1_wishOf_89)
      · have q_0 : (a2).toInt ≠ 0 := fun q => c_34_0 (zs_eq q rfl)
        have q_1 : (a2).toInt ≠ 1 := fun q => c_34_1 (zs_eq q rfl)
        have q_2 : (a2).toInt ≠ 2 := fun q => c_34_2 (zs_eq q rfl)
        refine rk_of (fun _ _ _ _ _ k => lv_tableOut (tgt := 81) hx hb dX1_wishOf_34 (by omega) (by decide) k) ?_
        refine rk_new C (hc_J12 H) in_J12 tyJ12_ok q1138 q596 q116 (fs := [.null, .null, .null, .null, .null, .int 0]) rfl (fun j hj => zdf_J12 j hj) dX1_wishOf_81 (fun v81 => ?_)
        refine rk_of (fun _ _ _ _ _ k => lv_dup hx hb dX1_wishOf_84 (va_rf_cat _) k) ?_
        refine rk_callV hX (cl_I (rest := [va_rf (some v81)]) C (ct_J12_init_2 H (some v81)) (lw_meth q1141) q116 q1139 q1140 rfl hd_J12_init_2 ⟨(Nat.le_of_ble_eq_true rfl), (Nat.le_of_ble_eq_true rfl)⟩ rfl hl.1 rfl (zw_le (zw_R zw_nil) (Nat.le_of_ble_eq_true rfl)) dX1_wishOf_85) (fun _ => ?_)
        exact rk_ath H C hX dX1_wishOf_88
theorem hd_X0_wishOf : yX0_wishOf.cls ≠ "java/lang/invoke/MethodHandle" ∧ yX0_wishOf.cls ≠ "java/lang/invoke/VarHandle" ∧ (parseMethodDescriptor yX0_wishOf.desc).map (fun d => d.parameters.length) = some 4 := by decide +kernel
noncomputable def fn_X0_wishOf (K : zm_K) (a0 : zm_R) (a1 : Int32) (a2 : Int32) (a3 : zm_R) : zm_M Int32 :=
  zm_cth (zm_bnd (zm_is a0 18) fun _ => fn_X1_wishOf K a0 a1 a2) (fun (E5 : String) (q5 : Nat) =>
      if E5 ∈ (["java/lang/IndexOutOfBoundsException", "java/lang/ArrayIndexOutOfBoundsException", "java/lang/StringIndexOutOfBoundsException"] : List String) then
        zm_ret 1
      else
        if E5 ∈ (["java/lang/IllegalArgumentException"] : List String) then
          zm_ret 2
        else
          if E5 ∈ (["java/util/NoSuchElementException", "java/lang/UnsupportedOperationException", "java/lang/IllegalStateException", "java/lang/ArithmeticException", "BoxSpans$Refusal", "BoxSpans$TextError"] : List String) then
            zm_thr E5 q5
          else
            zm_fl
    ) fun v5 =>
  zm_bnd (zm_astJ K a3 0 ((v5).toInt64)) fun _ =>
  zm_ret 0
theorem ct_X0_wishOf {l : Launch} {Ω : zm_W} {K : zm_K} (H : zm_H Ω K) (a0 : zm_R) (a1 : Int32) (a2 : Int32) (a3 : zm_R) : zm_Ct l Ω yX0_wishOf (wsW_ yX0_wishOf cX0_wishOf 5 (Option.some Jvm.ClassFile.FieldType.int) [(0, 10, 13, 21), (0, 10, 17, 13)]) 11 277 [va_rf a0, .int a1, .int a2, va_rf a3] zm_tvI (fn_X0_wishOf K a0 a1 a2 a3) := by
  refine zm_ctW H.1 (by decide +kernel) (zl_le (zl_R (zl_I (zl_I (zl_R zl_nil)))) (Nat.le_of_ble_eq_true rfl)) ?_
  intro p e R s m args below meth c n0 k0 C hN hT ls hl
  have hx := C.1
  have hb := C.2.1
  simp only [zg_I, zg_R, zg_nil] at hl
  have hl : lv_has ls 5 [(0, va_rf a0), (1, .int a1), (2, .int a2), (3, va_rf a3)] := hl
  refine rk_rf ?_
  unfold fn_X0_wishOf
  refine rk_of (fun _ _ _ _ _ k => lr_aload_n hx hb dX0_wishOf_0 rfl (lv_at hl 3 rfl) (lv_iconst (v := 0) hx hb dX0_wishOf_1 rfl (lr_aload_n hx hb dX0_wishOf_2 rfl (lv_at hl 0 rfl) (lv_iload_n hx hb dX0_wishOf_3 rfl (lv_at hl 1 rfl) (lv_iload_n hx hb dX0_wishOf_4 rfl (lv_at hl 2 rfl) k))))) ?_
  refine rk_cthI (cl_V (rest := [.int 0, va_rf a3]) (av := [.int a1, .int a2]) C (hc_X1 H) (ct_X1_wishOf H a0 a1 a2) (lw_V q1663 q1664 q1665 q101 q1666) ⟨rfl, hd_X1_wishOf⟩ ⟨(Nat.le_of_ble_eq_true rfl), (Nat.le_of_ble_eq_true rfl)⟩ rfl hl.1 rfl (zw_le (zw_I (zw_R zw_nil)) (Nat.le_of_ble_eq_true rfl)) dX0_wishOf_5) (fun E5 q5 => ?_) (fun v5 => ?_)
  · refine rx_ite (fun h5_0 => ?_) (fun h5_0 => ?_)
    · refine rx_cat (k := 0) C hT rfl zp_nil ⟨by decide, by decide⟩ (by decide) q1373 ((zp_cons (P := fun E => (Cond.castable E "java/lang/IndexOutOfBoundsException").before args s = true) (zn_wC H C q360) (zp_cons (P := fun E => (Cond.castable E "java/lang/IndexOutOfBoundsException").before args s = true) (zn_wC H C q3093) (zp_cons (P := fun E => (Cond.castable E "java/lang/IndexOutOfBoundsException").before args s = true) (zn_wC H C q3094) zp_nil))) E5 h5_0) ?_
      refine rk_ofs (fun _ _ _ _ _ k => lr_astore hx hb dX0_wishOf_13 hl (Nat.le_of_ble_eq_true rfl) [] rfl trivial k) (fun ls hl => ?_)
      refine rk_of (fun _ _ _ _ _ k => lv_iconst (v := 1) hx hb dX0_wishOf_15 rfl k) ?_
      exact rk_top (rf_iret C rfl dX0_wishOf_16)
    · refine rx_ite (fun h5_1 => ?_) (fun h5_1 => ?_)
      · refine rx_cat (k := 1) C hT rfl (zp_cons (Or.inr ⟨by decide, _, q1373, zh_ncs H C (L := ["java/lang/IllegalArgumentException"]) (by decide) h5_1⟩) zp_nil) ⟨by decide, by decide⟩ (by decide) q1126 ((zp_cons (P := fun E => (Cond.castable E "java/lang/IllegalArgumentException").before args s = true) (zn_wC H C q597) zp_nil) E5 h5_1) ?_
        refine rk_ofs (fun _ _ _ _ _ k => lr_astore hx hb dX0_wishOf_17 hl (Nat.le_of_ble_eq_true rfl) [] rfl trivial k) (fun ls hl => ?_)
        refine rk_of (fun _ _ _ _ _ k => lv_iconst (v := 2) hx hb dX0_wishOf_19 rfl k) ?_
        exact rk_top (rf_iret C rfl dX0_wishOf_20)
      · refine rx_ite (fun h5_x => ?_) (fun _ => rx_fl)
        exact rx_out C hT (zp_cons (Or.inr ⟨by decide, _, q1373, zh_ncs H C (L := ["java/util/NoSuchElementException", "java/lang/UnsupportedOperationException", "java/lang/IllegalStateException", "java/lang/ArithmeticException", "BoxSpans$Refusal", "BoxSpans$TextError"]) (by decide) h5_x⟩) (zp_cons (Or.inr ⟨by decide, _, q1126, zh_ncs H C (L := ["java/util/NoSuchElementException", "java/lang/UnsupportedOperationException", "java/lang/IllegalStateException", "java/lang/ArithmeticException", "BoxSpans$Refusal", "BoxSpans$TextError"]) (by decide) h5_x⟩) zp_nil))
  refine rk_of (fun _ _ _ _ _ k => lv_i2l hx hb dX0_wishOf_8 rfl k) ?_
  refine rk_last C H.2.2.1 dX0_wishOf_9 ?_
  refine rk_of (fun _ _ _ _ _ k => lv_goto (tgt := 21) hx hb dX0_wishOf_10 (by decide) (lv_iconst (v := 0) hx hb dX0_wishOf_21 rfl k)) ?_
  exact rk_top (rf_iret C rfl dX0_wishOf_22)
theorem hd_X2_over : yX2_over.cls ≠ "java/lang/invoke/MethodHandle" ∧ yX2_over.cls ≠ "java/lang/invoke/VarHandle" ∧ (parseMethodDescriptor yX2_over.desc).map (fun d => d.parameters.length) = some 1 := by decide +kernel
noncomputable def fn_X2_over_12 (K : zm_K) (p1 : Int32) (p3 : zm_R) : Nat → Int32 → zm_M (Int32)
  | 0, _ => zm_fl
  | n + 1, x2 =>
    zm_bnd (zm_bnd (zm_cls p3) fun ci => if ci = 26 then fn_X10_hasNext K p3 else if ci = 9 then fn_J22_hasNext K p3 else if ci = 11 then fn_J25_hasNext K p3 else zm_fl) fun v13 =>
    if v13 = 0 then
      zm_ret x2
    else
      zm_bnd (zm_bnd (zm_cls p3) fun ci => if ci = 26 then fn_X10_next K p3 else if ci = 9 then fn_J22_next K p3 else if ci = 11 then fn_J25_next K p3 else zm_fl) fun v22 =>
      zm_bnd (zm_chk [24] [] v22) fun _ =>
      zm_bnd (zm_bnd (zm_is v22 24) fun _ => fn_X7_has K v22 p1) fun v36 =>
      zm_bnd (α := Int32) (
          if v36 = 0 then
            zm_ret 0
          else
            zm_ret 1
        ) fun b47 =>
      fn_X2_over_12 K p1 p3 n (x2 + b47)
noncomputable def fn_X2_over (K : zm_K) (a0 : zm_R) (a1 : Int32) : zm_M Int32 :=
  zm_bnd (zm_getR a0 19 2) fun v3 =>
  zm_bnd (zm_bnd (zm_cls v3) fun ci => if ci = 0 then fn_J2_iterator K v3 else if ci = 1 then fn_J3_iterator K v3 else zm_fl) fun v6 =>
  zm_bnd (α := Int32) (fn_X2_over_12 K a1 v6 zm_N 0) fun b52 =>
  zm_ret b52
theorem rf_X2_over_12 (H : zm_H Ω K) (C : zm_C p l R s m args meth c Ω lw_all cX2_over yX2_over.cls yX2_over.name 5 17 415 (Option.some Jvm.ClassFile.FieldType.int)) (hX : zm_XO p l e R s m args below meth c Ω n0 k0 (zm_QFs below args s Ω n0 k0 zm_tvI)) (p1 : Int32) (p3 : zm_R) : ∀ (n : Nat) (x2 : Int32) (J : (Int32) → zm_M Int32) (ls : Array Slot), lv_has ls 5 [(1, .int p1), (3, va_rf p3), (2, .int x2)] → (∀ (b : Int32) (ls : Array Slot), lv_has ls 5 [(2, .int b)] → zm_RK p l e R s m args below meth c Ω n0 k0 (zm_QFs below args s Ω n0 k0 zm_tvI) (zm_ret b) J (F0 m 52 ls [])) → zm_RK p l e R s m args below meth c Ω n0 k0 (zm_QFs below args s Ω n0 k0 zm_tvI) (fn_X2_over_12 K p1 p3 n x2) J (F0 m 12 ls []) := by
  have hx := C.1
  have hb := C.2.1
  intro n
  induction n with
  | zero => intro x2 J ls hl hJ; exact rk_fl
  | succ n ih =>
    intro x2 J ls hl hJ
    unfold fn_X2_over_12
    refine rk_of (fun _ _ _ _ _ k => lr_aload_n hx hb dX2_over_12 rfl (lv_at hl 1 rfl) k) ?_
    refine rk_callI hX (cl_dsp (fun ci => cl_case (cl_F (n := 0) (rest := []) (av := []) C (hc_X10 H) (ct_X10_hasNext H p3) (lw_F q733 q737 q739 q143 q741) (zh_Fw H C (by decide) q735 q734 q740 q738 q736) (by decide +kernel) ⟨(Nat.le_of_ble_eq_true rfl), (Nat.le_of_ble_eq_true rfl)⟩ rfl hl.1 rfl (zw_le zw_nil (Nat.le_of_ble_eq_true rfl)) dX2_over_13) (cl_case (cl_F (n := 0) (rest := []) (av := []) C (hc_J22 H) (ct_J22_hasNext H p3) (lw_F q733 q758 q760 q129 q762) (zh_Fw H C (by decide) q735 q734 q761 q759 q757) (by decide +kernel) ⟨(Nat.le_of_ble_eq_true rfl), (Nat.le_of_ble_eq_true rfl)⟩ rfl hl.1 rfl (zw_le zw_nil (Nat.le_of_ble_eq_true rfl)) dX2_over_13) (cl_case (cl_F (n := 0) (rest := []) (av := []) C (hc_J25 H) (ct_J25_hasNext H p3) (lw_F q733 q767 q769 q133 q771) (zh_Fw H C (by decide) q735 q734 q770 q768 q766) (by decide +kernel) ⟨(Nat.le_of_ble_eq_true rfl), (Nat.le_of_ble_eq_true rfl)⟩ rfl hl.1 rfl (zw_le zw_nil (Nat.le_of_ble_eq_true rfl)) dX2_over_13) (cl_fl))))) (fun v13 => ?_)
    refine rk_ite (fun _ _ _ _ _ k1 k2 => lv_if_eq (tgt := 52) hx hb dX2_over_18 (by decide) k1 k2) (fun c_18 => ?_) (fun c_18 => ?_)
    · exact hJ x2 ls (lv_sub hl [2] rfl)
    · refine rk_of (fun _ _ _ _ _ k => lr_aload_n hx hb dX2_over_21 rfl (lv_at hl 1 rfl) k) ?_
      refine rk_callR hX (cl_dsp (fun ci => cl_case (cl_F (n := 0) (rest := []) (av := []) C (hc_X10 H) (ct_X10_next H p3) (lw_F q773 q776 q778 q143 q780) (zh_Fw H C (by decide) q775 q774 q779 q777 q736) (by decide +kernel) ⟨(Nat.le_of_ble_eq_true rfl), (Nat.le_of_ble_eq_true rfl)⟩ rfl hl.1 rfl (zw_le zw_nil (Nat.le_of_ble_eq_true rfl)) dX2_over_22) (cl_case (cl_F (n := 0) (rest := []) (av := []) C (hc_J22 H) (ct_J22_next H p3) (lw_F q773 q966 q968 q129 q970) (zh_Fw H C (by decide) q775 q774 q969 q967 q757) (by decide +kernel) ⟨(Nat.le_of_ble_eq_true rfl), (Nat.le_of_ble_eq_true rfl)⟩ rfl hl.1 rfl (zw_le zw_nil (Nat.le_of_ble_eq_true rfl)) dX2_over_22) (cl_case (cl_F (n := 0) (rest := []) (av := []) C (hc_J25 H) (ct_J25_next H p3) (lw_F q773 q981 q983 q133 q985) (zh_Fw H C (by decide) q775 q774 q984 q982 q766) (by decide +kernel) ⟨(Nat.le_of_ble_eq_true rfl), (Nat.le_of_ble_eq_true rfl)⟩ rfl hl.1 rfl (zw_le zw_nil (Nat.le_of_ble_eq_true rfl)) dX2_over_22) (cl_fl))))) (fun v22 => ?_)
      refine rk_chk C q993 (zc_cons (zc_s (hc_X8 H)) zc_nil) zp_nil dX2_over_27 ?_
      refine rk_ofs (fun _ _ _ _ _ k => lr_astore hx hb dX2_over_30 hl (Nat.le_of_ble_eq_true rfl) [0, 1, 2] rfl ⟨trivial, ⟨(by first | exact va_rf_cat _ | rfl), ⟨trivial, trivial⟩⟩⟩ k) (fun ls hl => ?_)
      refine rk_of (fun _ _ _ _ _ k => lv_iload_n hx hb dX2_over_32 rfl (lv_at hl 3 rfl) (lr_aload hx hb dX2_over_33 (lv_at hl 0 rfl) (lv_iload_n hx hb dX2_over_35 rfl (lv_at hl 1 rfl) k))) ?_
      refine rk_callI hX (cl_D (n := 1) (rest := [.int x2]) (av := [.int p1]) C (hc_X8 H) (ct_X7_has H v22 p1) (lw_meth q999) q140 ((zh_df H).choose_spec.1 _ (List.mem_of_getElem? (i := 0) rfl)) ((zh_df H).choose_spec.1 _ (List.mem_of_getElem? (i := 1) rfl)) ((zh_df H).choose_spec.2 _ (List.mem_of_getElem? (i := 0) rfl)) (zn_wD H C q995) q997 (by decide) (by decide +kernel) ⟨(Nat.le_of_ble_eq_true rfl), (Nat.le_of_ble_eq_true rfl)⟩ rfl hl.1 rfl (zw_le (zw_I zw_nil) (Nat.le_of_ble_eq_true rfl)) dX2_over_36) (fun v36 => ?_)
      refine rk_join (β := Int32) (fun (b47 : Int32) ls => lv_has ls 5 [(1, .int p1), (3, va_rf p3)]) (fun (b47 : Int32) ls => F0 m 47 ls [.int b47, .int x2]) (fun b47 ls hl => ?_) (fun hJ47 => ?_)
      · refine rk_ofs (fun _ _ _ _ _ k => lv_iadd hx hb dX2_over_47 (lr_istore_n hx hb dX2_over_48 rfl hl (Nat.le_of_ble_eq_true rfl) [0, 1] rfl ⟨rfl, ⟨trivial, trivial⟩⟩ k)) (fun ls hl => ?_)
        refine rk_of (fun _ _ _ _ _ k => lv_goto (tgt := 12) hx hb dX2_over_49 (by decide) k) ?_
        exact ih (x2 + b47) J ls (lv_sub hl [1, 2, 0] rfl) hJ
      · refine rk_ite (fun _ _ _ _ _ k1 k2 => lv_if_eq (tgt := 46) hx hb dX2_over_39 (by decide) k1 k2) (fun c_39 => ?_) (fun c_39 => ?_)
        · refine rk_of (fun _ _ _ _ _ k => lv_iconst (v := 0) hx hb dX2_over_46 rfl k) ?_
          exact hJ47 0 ls (lv_sub hl [1, 2] rfl)
        · refine rk_of (fun _ _ _ _ _ k => lv_iconst (v := 1) hx hb dX2_over_42 rfl (lv_goto (tgt := 47) hx hb dX2_over_43 (by decide) k)) ?_
          exact hJ47 1 ls (lv_sub hl [1, 2] rfl)
theorem ct_X2_over {l : Launch} {Ω : zm_W} {K : zm_K} (H : zm_H Ω K) (a0 : zm_R) (a1 : Int32) : zm_Ct l Ω yX2_over (ws_ yX2_over cX2_over 5 (Option.some Jvm.ClassFile.FieldType.int)) 17 415 [va_rf a0, .int a1] zm_tvI (fn_X2_over K a0 a1) := by
  refine zm_ct H.1 (by decide +kernel) (zl_le (zl_R (zl_I zl_nil)) (Nat.le_of_ble_eq_true rfl)) ?_
  intro p e R s m args below meth c n0 k0 C hX ls hl
  have hx := C.1
  have hb := C.2.1
  simp only [zg_I, zg_R, zg_nil] at hl
  have hl : lv_has ls 5 [(0, va_rf a0), (1, .int a1)] := hl
  refine rk_rf ?_
  unfold fn_X2_over
  refine rk_ofs (fun _ _ _ _ _ k => lv_iconst (v := 0) hx hb dX2_over_0 rfl (lr_istore_n hx hb dX2_over_1 rfl hl (Nat.le_of_ble_eq_true rfl) [0, 1] rfl ⟨trivial, ⟨rfl, trivial⟩⟩ k)) (fun ls hl => ?_)
  refine rk_of (fun _ _ _ _ _ k => lr_aload_n hx hb dX2_over_2 rfl (lv_at hl 1 rfl) k) ?_
  refine rk_get zm_rdR_eq C (hc_X2 H) (k := 2) (Nat.le_of_ble_eq_true rfl) in_X2 q199 (fun _ h => h) dX2_over_3 (fun v3 => ?_)
  refine rk_callR hX (cl_dsp (fun ci => cl_case (cl_F (n := 0) (rest := []) (av := []) C (hc_J2 H) (ct_J2_iterator H v3) (lw_F q306 q310 q312 q105 q314) (zh_Fw H C (by decide) q308 q307 q313 q311 q309) (by decide +kernel) ⟨(Nat.le_of_ble_eq_true rfl), (Nat.le_of_ble_eq_true rfl)⟩ rfl hl.1 rfl (zw_le zw_nil (Nat.le_of_ble_eq_true rfl)) dX2_over_6) (cl_case (cl_F (n := 0) (rest := []) (av := []) C (hc_J4 H) (ct_J3_iterator H v3) (lw_F q306 q337 q339 q106 q341) (zh_Fw H C (by decide) q308 q307 q340 q338 q336) (by decide +kernel) ⟨(Nat.le_of_ble_eq_true rfl), (Nat.le_of_ble_eq_true rfl)⟩ rfl hl.1 rfl (zw_le zw_nil (Nat.le_of_ble_eq_true rfl)) dX2_over_6) (cl_fl)))) (fun v6 => ?_)
  refine rk_ofs (fun _ _ _ _ _ k => lr_astore_n hx hb dX2_over_11 rfl hl (Nat.le_of_ble_eq_true rfl) [0, 2] rfl ⟨rfl, ⟨trivial, trivial⟩⟩ k) (fun ls hl => ?_)
  refine rk_join (β := Int32) (fun (b52 : Int32) ls => lv_has ls 5 [(2, .int b52)]) (fun (b52 : Int32) ls => F0 m 52 ls []) (fun b52 ls hl => ?_) (fun hJ52 => ?_)
  · refine rk_of (fun _ _ _ _ _ k => lv_iload_n hx hb dX2_over_52 rfl (lv_at hl 0 rfl) k) ?_
    exact rk_top (rf_iret C rfl dX2_over_53)
  · exact rf_X2_over_12 H C hX a1 v6 zm_N 0 _ ls (lv_sub hl [2, 0, 1] rfl) hJ52
theorem hd_X1_over : yX1_over.cls ≠ "java/lang/invoke/MethodHandle" ∧ yX1_over.cls ≠ "java/lang/invoke/VarHandle" ∧ (parseMethodDescriptor yX1_over.desc).map (fun d => d.parameters.length) = some 1 := by decide +kernel
noncomputable def fn_X1_over (K : zm_K) (a0 : zm_R) (a1 : Int32) : zm_M Int32 :=
  zm_bnd (fn_X1_requireMinute K a1) fun _ =>
  zm_bnd (zm_getR a0 18 0) fun v5 =>
  zm_bnd (zm_bnd (zm_is v5 19) fun _ => fn_X2_over K v5 a1) fun v9 =>
  zm_ret v9
theorem ct_X1_over {l : Launch} {Ω : zm_W} {K : zm_K} (H : zm_H Ω K) (a0 : zm_R) (a1 : Int32) : zm_Ct l Ω yX1_over (ws_ yX1_over cX1_over 2 (Option.some Jvm.ClassFile.FieldType.int)) 18 439 [va_rf a0, .int a1] zm_tvI (fn_X1_over K a0 a1) := by
  refine zm_ct H.1 (by decide +kernel) (zl_le (zl_R (zl_I zl_nil)) (Nat.le_of_ble_eq_true rfl)) ?_
  intro p e R s m args below meth c n0 k0 C hX ls hl
  have hx := C.1
  have hb := C.2.1
  simp only [zg_I, zg_R, zg_nil] at hl
  have hl : lv_has ls 2 [(0, va_rf a0), (1, .int a1)] := hl
  refine rk_rf ?_
  unfold fn_X1_over
  refine rk_of (fun _ _ _ _ _ k => lv_iload_n hx hb dX1_over_0 rfl (lv_at hl 1 rfl) k) ?_
  refine rk_callV hX (cl_S (rest := []) C (ct_X1_requireMinute H a1) (lw_S q1590 q1591 q101 q1592) hd_X1_requireMinute ⟨(Nat.le_of_ble_eq_true rfl), (Nat.le_of_ble_eq_true rfl)⟩ rfl hl.1 rfl (zw_le zw_nil (Nat.le_of_ble_eq_true rfl)) dX1_over_1) (fun _ => ?_)
  refine rk_of (fun _ _ _ _ _ k => lr_aload_n hx hb dX1_over_4 rfl (lv_at hl 0 rfl) k) ?_
  refine rk_get zm_rdR_eq C (hc_X1 H) (k := 0) (Nat.le_of_ble_eq_true rfl) in_X1 q271 (fun _ h => h) dX1_over_5 (fun v5 => ?_)
  refine rk_of (fun _ _ _ _ _ k => lv_iload_n hx hb dX1_over_8 rfl (lv_at hl 1 rfl) k) ?_
  refine rk_callI hX (cl_V (rest := []) (av := [.int a1]) C (hc_X2 H) (ct_X2_over H v5 a1) (lw_V q1044 q302 q303 q102 q304) ⟨rfl, hd_X2_over⟩ ⟨(Nat.le_of_ble_eq_true rfl), (Nat.le_of_ble_eq_true rfl)⟩ rfl hl.1 rfl (zw_le zw_nil (Nat.le_of_ble_eq_true rfl)) dX1_over_9) (fun v9 => ?_)
  exact rk_top (rf_iret C rfl dX1_over_12)
theorem hd_X0_over : yX0_over.cls ≠ "java/lang/invoke/MethodHandle" ∧ yX0_over.cls ≠ "java/lang/invoke/VarHandle" ∧ (parseMethodDescriptor yX0_over.desc).map (fun d => d.parameters.length) = some 3 := by decide +kernel
noncomputable def fn_X0_over (K : zm_K) (a0 : zm_R) (a1 : Int32) (a2 : zm_R) : zm_M Int32 :=
  zm_cth (zm_bnd (zm_is a0 18) fun _ => fn_X1_over K a0 a1) (fun (E4 : String) (q4 : Nat) =>
      if E4 ∈ (["java/lang/IllegalArgumentException"] : List String) then
        zm_ret 1
      else
        if E4 ∈ (["java/lang/IndexOutOfBoundsException", "java/util/NoSuchElementException", "java/lang/UnsupportedOperationException", "java/lang/ArrayIndexOutOfBoundsException", "java/lang/IllegalStateException", "java/lang/StringIndexOutOfBoundsException", "java/lang/ArithmeticException", "BoxSpans$Refusal", "BoxSpans$TextError"] : List String) then
          zm_thr E4 q4
        else
          zm_fl
    ) fun v4 =>
  zm_bnd (zm_astJ K a2 0 ((v4).toInt64)) fun _ =>
  zm_ret 0
theorem ct_X0_over {l : Launch} {Ω : zm_W} {K : zm_K} (H : zm_H Ω K) (a0 : zm_R) (a1 : Int32) (a2 : zm_R) : zm_Ct l Ω yX0_over (wsW_ yX0_over cX0_over 4 (Option.some Jvm.ClassFile.FieldType.int) [(0, 9, 12, 13)]) 19 460 [va_rf a0, .int a1, va_rf a2] zm_tvI (fn_X0_over K a0 a1 a2) := by
  refine zm_ctW H.1 (by decide +kernel) (zl_le (zl_R (zl_I (zl_R zl_nil))) (Nat.le_of_ble_eq_true rfl)) ?_
  intro p e R s m args below meth c n0 k0 C hN hT ls hl
  have hx := C.1
  have hb := C.2.1
  simp only [zg_I, zg_R, zg_nil] at hl
  have hl : lv_has ls 4 [(0, va_rf a0), (1, .int a1), (2, va_rf a2)] := hl
  refine rk_rf ?_
  unfold fn_X0_over
  refine rk_of (fun _ _ _ _ _ k => lr_aload_n hx hb dX0_over_0 rfl (lv_at hl 2 rfl) (lv_iconst (v := 0) hx hb dX0_over_1 rfl (lr_aload_n hx hb dX0_over_2 rfl (lv_at hl 0 rfl) (lv_iload_n hx hb dX0_over_3 rfl (lv_at hl 1 rfl) k)))) ?_
  refine rk_cthI (cl_V (rest := [.int 0, va_rf a2]) (av := [.int a1]) C (hc_X1 H) (ct_X1_over H a0 a1) (lw_V q1679 q1680 q1681 q101 q1682) ⟨rfl, hd_X1_over⟩ ⟨(Nat.le_of_ble_eq_true rfl), (Nat.le_of_ble_eq_true rfl)⟩ rfl hl.1 rfl (zw_le (zw_I (zw_R zw_nil)) (Nat.le_of_ble_eq_true rfl)) dX0_over_4) (fun E4 q4 => ?_) (fun v4 => ?_)
  · refine rx_ite (fun h4_0 => ?_) (fun h4_0 => ?_)
    · refine rx_cat (k := 0) C hT rfl zp_nil ⟨by decide, by decide⟩ (by decide) q1126 ((zp_cons (P := fun E => (Cond.castable E "java/lang/IllegalArgumentException").before args s = true) (zn_wC H C q597) zp_nil) E4 h4_0) ?_
      refine rk_ofs (fun _ _ _ _ _ k => lr_astore_n hx hb dX0_over_12 rfl hl (Nat.le_of_ble_eq_true rfl) [] rfl trivial k) (fun ls hl => ?_)
      refine rk_of (fun _ _ _ _ _ k => lv_iconst (v := 1) hx hb dX0_over_13 rfl k) ?_
      exact rk_top (rf_iret C rfl dX0_over_14)
    · refine rx_ite (fun h4_x => ?_) (fun _ => rx_fl)
      exact rx_out C hT (zp_cons (Or.inr ⟨by decide, _, q1126, zh_ncs H C (L := ["java/lang/IndexOutOfBoundsException", "java/util/NoSuchElementException", "java/lang/UnsupportedOperationException", "java/lang/ArrayIndexOutOfBoundsException", "java/lang/IllegalStateException", "java/lang/StringIndexOutOfBoundsException", "java/lang/ArithmeticException", "BoxSpans$Refusal", "BoxSpans$TextError"]) (by decide) h4_x⟩) zp_nil)
  refine rk_of (fun _ _ _ _ _ k => lv_i2l hx hb dX0_over_7 rfl k) ?_
  refine rk_last C H.2.2.1 dX0_over_8 ?_
  refine rk_of (fun _ _ _ _ _ k => lv_goto (tgt := 15) hx hb dX0_over_9 (by decide) (lv_iconst (v := 0) hx hb dX0_over_15 rfl k)) ?_
  exact rk_top (rf_iret C rfl dX0_over_16)
theorem hd_X2_overAgain : yX2_overAgain.cls ≠ "java/lang/invoke/MethodHandle" ∧ yX2_overAgain.cls ≠ "java/lang/invoke/VarHandle" ∧ (parseMethodDescriptor yX2_overAgain.desc).map (fun d => d.parameters.length) = some 1 := by decide +kernel
noncomputable def fn_X2_overAgain_15 (K : zm_K) (p1 : Int32) (p4 : zm_R) : Nat → Int32 → Int32 → zm_M (Int32 × Int32)
  | 0, _, _ => zm_fl
  | n + 1, x2, x3 =>
    zm_bnd (zm_bnd (zm_cls p4) fun ci => if ci = 26 then fn_X10_hasNext K p4 else if ci = 9 then fn_J22_hasNext K p4 else if ci = 11 then fn_J25_hasNext K p4 else zm_fl) fun v17 =>
    if v17 = 0 then
      zm_ret (x2, x3)
    else
      zm_bnd (zm_bnd (zm_cls p4) fun ci => if ci = 26 then fn_X10_next K p4 else if ci = 9 then fn_J22_next K p4 else if ci = 11 then fn_J25_next K p4 else zm_fl) fun v27 =>
      zm_bnd (zm_chk [24] [] v27) fun _ =>
      zm_bnd (zm_bnd (zm_is v27 24) fun _ => fn_X8_from K v27) fun v40 =>
      zm_bnd (α := Int32) (
          if p1 < v40 then
            zm_ret 0
          else
            zm_ret 1
        ) fun b52 =>
      zm_bnd (zm_bnd (zm_is v27 24) fun _ => fn_X8_to K v27) fun v57 =>
      zm_bnd (α := Int32) (
          if p1 < v57 then
            zm_ret 0
          else
            zm_ret 1
        ) fun b69 =>
      fn_X2_overAgain_15 K p1 p4 n (x2 + b52) (x3 + b69)
noncomputable def fn_X2_overAgain (K : zm_K) (a0 : zm_R) (a1 : Int32) : zm_M Int32 :=
  zm_bnd (zm_getR a0 19 2) fun v5 =>
  zm_bnd (zm_bnd (zm_cls v5) fun ci => if ci = 0 then fn_J2_iterator K v5 else if ci = 1 then fn_J3_iterator K v5 else zm_fl) fun v8 =>
  zm_bnd (α := Int32 × Int32) (fn_X2_overAgain_15 K a1 v8 zm_N 0 0) fun b74 =>
  zm_ret (b74.1 - b74.2)
theorem rf_X2_overAgain_15 (H : zm_H Ω K) (C : zm_C p l R s m args meth c Ω lw_all cX2_overAgain yX2_overAgain.cls yX2_overAgain.name 6 17 415 (Option.some Jvm.ClassFile.FieldType.int)) (hX : zm_XO p l e R s m args below meth c Ω n0 k0 (zm_QFs below args s Ω n0 k0 zm_tvI)) (p1 : Int32) (p4 : zm_R) : ∀ (n : Nat) (x2 : Int32) (x3 : Int32) (J : (Int32 × Int32) → zm_M Int32) (ls : Array Slot), lv_has ls 6 [(1, .int p1), (4, va_rf p4), (2, .int x2), (3, .int x3)] → (∀ (b : Int32 × Int32) (ls : Array Slot), lv_has ls 6 [(2, .int b.1), (3, .int b.2)] → zm_RK p l e R s m args below meth c Ω n0 k0 (zm_QFs below args s Ω n0 k0 zm_tvI) (zm_ret b) J (F0 m 74 ls [])) → zm_RK p l e R s m args below meth c Ω n0 k0 (zm_QFs below args s Ω n0 k0 zm_tvI) (fn_X2_overAgain_15 K p1 p4 n x2 x3) J (F0 m 15 ls []) := by
  have hx := C.1
  have hb := C.2.1
  intro n
  induction n with
  | zero => intro x2 x3 J ls hl hJ; exact rk_fl
  | succ n ih =>
    intro x2 x3 J ls hl hJ
    unfold fn_X2_overAgain_15
    refine rk_of (fun _ _ _ _ _ k => lr_aload hx hb dX2_overAgain_15 (lv_at hl 1 rfl) k) ?_
    refine rk_callI hX (cl_dsp (fun ci => cl_case (cl_F (n := 0) (rest := []) (av := []) C (hc_X10 H) (ct_X10_hasNext H p4) (lw_F q733 q737 q739 q143 q741) (zh_Fw H C (by decide) q735 q734 q740 q738 q736) (by decide +kernel) ⟨(Nat.le_of_ble_eq_true rfl), (Nat.le_of_ble_eq_true rfl)⟩ rfl hl.1 rfl (zw_le zw_nil (Nat.le_of_ble_eq_true rfl)) dX2_overAgain_17) (cl_case (cl_F (n := 0) (rest := []) (av := []) C (hc_J22 H) (ct_J22_hasNext H p4) (lw_F q733 q758 q760 q129 q762) (zh_Fw H C (by decide) q735 q734 q761 q759 q757) (by decide +kernel) ⟨(Nat.le_of_ble_eq_true rfl), (Nat.le_of_ble_eq_true rfl)⟩ rfl hl.1 rfl (zw_le zw_nil (Nat.le_of_ble_eq_true rfl)) dX2_overAgain_17) (cl_case (cl_F (n := 0) (rest := []) (av := []) C (hc_J25 H) (ct_J25_hasNext H p4) (lw_F q733 q767 q769 q133 q771) (zh_Fw H C (by decide) q735 q734 q770 q768 q766) (by decide +kernel) ⟨(Nat.le_of_ble_eq_true rfl), (Nat.le_of_ble_eq_true rfl)⟩ rfl hl.1 rfl (zw_le zw_nil (Nat.le_of_ble_eq_true rfl)) dX2_overAgain_17) (cl_fl))))) (fun v17 => ?_)
    refine rk_ite (fun _ _ _ _ _ k1 k2 => lv_if_eq (tgt := 74) hx hb dX2_overAgain_22 (by decide) k1 k2) (fun c_22 => ?_) (fun c_22 => ?_)
    · exact hJ (x2, x3) ls (lv_sub hl [2, 3] rfl)
    · refine rk_of (fun _ _ _ _ _ k => lr_aload hx hb dX2_overAgain_25 (lv_at hl 1 rfl) k) ?_
      refine rk_callR hX (cl_dsp (fun ci => cl_case (cl_F (n := 0) (rest := []) (av := []) C (hc_X10 H) (ct_X10_next H p4) (lw_F q773 q776 q778 q143 q780) (zh_Fw H C (by decide) q775 q774 q779 q777 q736) (by decide +kernel) ⟨(Nat.le_of_ble_eq_true rfl), (Nat.le_of_ble_eq_true rfl)⟩ rfl hl.1 rfl (zw_le zw_nil (Nat.le_of_ble_eq_true rfl)) dX2_overAgain_27) (cl_case (cl_F (n := 0) (rest := []) (av := []) C (hc_J22 H) (ct_J22_next H p4) (lw_F q773 q966 q968 q129 q970) (zh_Fw H C (by decide) q775 q774 q969 q967 q757) (by decide +kernel) ⟨(Nat.le_of_ble_eq_true rfl), (Nat.le_of_ble_eq_true rfl)⟩ rfl hl.1 rfl (zw_le zw_nil (Nat.le_of_ble_eq_true rfl)) dX2_overAgain_27) (cl_case (cl_F (n := 0) (rest := []) (av := []) C (hc_J25 H) (ct_J25_next H p4) (lw_F q773 q981 q983 q133 q985) (zh_Fw H C (by decide) q775 q774 q984 q982 q766) (by decide +kernel) ⟨(Nat.le_of_ble_eq_true rfl), (Nat.le_of_ble_eq_true rfl)⟩ rfl hl.1 rfl (zw_le zw_nil (Nat.le_of_ble_eq_true rfl)) dX2_overAgain_27) (cl_fl))))) (fun v27 => ?_)
      refine rk_chk C q993 (zc_cons (zc_s (hc_X8 H)) zc_nil) zp_nil dX2_overAgain_32 ?_
      refine rk_ofs (fun _ _ _ _ _ k => lr_astore hx hb dX2_overAgain_35 hl (Nat.le_of_ble_eq_true rfl) [0, 1, 2, 3] rfl ⟨trivial, ⟨(by first | exact va_rf_cat _ | rfl), ⟨trivial, ⟨trivial, trivial⟩⟩⟩⟩ k) (fun ls hl => ?_)
      refine rk_of (fun _ _ _ _ _ k => lv_iload_n hx hb dX2_overAgain_37 rfl (lv_at hl 3 rfl) (lr_aload hx hb dX2_overAgain_38 (lv_at hl 0 rfl) k)) ?_
      refine rk_callI hX (cl_V (rest := [.int x2]) (av := []) C (hc_X8 H) (ct_X8_from H v27) (lw_V q1073 q1021 q3079 q141 q1023) ⟨rfl, hd_X8_from⟩ ⟨(Nat.le_of_ble_eq_true rfl), (Nat.le_of_ble_eq_true rfl)⟩ rfl hl.1 rfl (zw_le (zw_I zw_nil) (Nat.le_of_ble_eq_true rfl)) dX2_overAgain_40) (fun v40 => ?_)
      refine rk_of (fun _ _ _ _ _ k => lv_iload_n hx hb dX2_overAgain_43 rfl (lv_at hl 1 rfl) k) ?_
      refine rk_join (β := Int32) (fun (b52 : Int32) ls => lv_has ls 6 [(1, .int p1), (3, .int x3), (4, va_rf p4), (5, va_rf v27)]) (fun (b52 : Int32) ls => F0 m 52 ls [.int b52, .int x2]) (fun b52 ls hl => ?_) (fun hJ52 => ?_)
      · refine rk_ofs (fun _ _ _ _ _ k => lv_iadd hx hb dX2_overAgain_52 (lr_istore_n hx hb dX2_overAgain_53 rfl hl (Nat.le_of_ble_eq_true rfl) [0, 1, 2, 3] rfl ⟨rfl, ⟨trivial, ⟨trivial, ⟨trivial, trivial⟩⟩⟩⟩ k)) (fun ls hl => ?_)
        refine rk_of (fun _ _ _ _ _ k => lv_iload_n hx hb dX2_overAgain_54 rfl (lv_at hl 2 rfl) (lr_aload hx hb dX2_overAgain_55 (lv_at hl 4 rfl) k)) ?_
        refine rk_callI hX (cl_V (rest := [.int x3]) (av := []) C (hc_X8 H) (ct_X8_to H v27) (lw_V q1074 q1040 q3080 q141 q1042) ⟨rfl, hd_X8_to⟩ ⟨(Nat.le_of_ble_eq_true rfl), (Nat.le_of_ble_eq_true rfl)⟩ rfl hl.1 rfl (zw_le (zw_I zw_nil) (Nat.le_of_ble_eq_true rfl)) dX2_overAgain_57) (fun v57 => ?_)
        refine rk_of (fun _ _ _ _ _ k => lv_iload_n hx hb dX2_overAgain_60 rfl (lv_at hl 1 rfl) k) ?_
        refine rk_join (β := Int32) (fun (b69 : Int32) ls => lv_has ls 6 [(1, .int p1), (2, .int (x2 + b52)), (4, va_rf p4)]) (fun (b69 : Int32) ls => F0 m 69 ls [.int b69, .int x3]) (fun b69 ls hl => ?_) (fun hJ69 => ?_)
        · refine rk_ofs (fun _ _ _ _ _ k => lv_iadd hx hb dX2_overAgain_69 (lr_istore_n hx hb dX2_overAgain_70 rfl hl (Nat.le_of_ble_eq_true rfl) [0, 1, 2] rfl ⟨trivial, ⟨rfl, ⟨trivial, trivial⟩⟩⟩ k)) (fun ls hl => ?_)
          refine rk_of (fun _ _ _ _ _ k => lv_goto (tgt := 15) hx hb dX2_overAgain_71 (by decide) k) ?_
          exact ih (x2 + b52) (x3 + b69) J ls (lv_sub hl [1, 3, 2, 0] rfl) hJ
        · refine rk_ite (fun _ _ _ _ _ k1 k2 => lv_icmp_gt (tgt := 68) hx hb dX2_overAgain_61 (by decide) k1 k2) (fun c_61 => ?_) (fun c_61 => ?_)
          · refine rk_of (fun _ _ _ _ _ k => lv_iconst (v := 0) hx hb dX2_overAgain_68 rfl k) ?_
            exact hJ69 0 ls (lv_sub hl [1, 0, 3] rfl)
          · refine rk_of (fun _ _ _ _ _ k => lv_iconst (v := 1) hx hb dX2_overAgain_64 rfl (lv_goto (tgt := 69) hx hb dX2_overAgain_65 (by decide) k)) ?_
            exact hJ69 1 ls (lv_sub hl [1, 0, 3] rfl)
      · refine rk_ite (fun _ _ _ _ _ k1 k2 => lv_icmp_gt (tgt := 51) hx hb dX2_overAgain_44 (by decide) k1 k2) (fun c_44 => ?_) (fun c_44 => ?_)
        · refine rk_of (fun _ _ _ _ _ k => lv_iconst (v := 0) hx hb dX2_overAgain_51 rfl k) ?_
          exact hJ52 0 ls (lv_sub hl [1, 4, 2, 0] rfl)
        · refine rk_of (fun _ _ _ _ _ k => lv_iconst (v := 1) hx hb dX2_overAgain_47 rfl (lv_goto (tgt := 52) hx hb dX2_overAgain_48 (by decide) k)) ?_
          exact hJ52 1 ls (lv_sub hl [1, 4, 2, 0] rfl)
theorem ct_X2_overAgain {l : Launch} {Ω : zm_W} {K : zm_K} (H : zm_H Ω K) (a0 : zm_R) (a1 : Int32) : zm_Ct l Ω yX2_overAgain (ws_ yX2_overAgain cX2_overAgain 6 (Option.some Jvm.ClassFile.FieldType.int)) 17 415 [va_rf a0, .int a1] zm_tvI (fn_X2_overAgain K a0 a1) := by
  refine zm_ct H.1 (by decide +kernel) (zl_le (zl_R (zl_I zl_nil)) (Nat.le_of_ble_eq_true rfl)) ?_
  intro p e R s m args below meth c n0 k0 C hX ls hl
  have hx := C.1
  have hb := C.2.1
  simp only [zg_I, zg_R, zg_nil] at hl
  have hl : lv_has ls 6 [(0, va_rf a0), (1, .int a1)] := hl
  refine rk_rf ?_
  unfold fn_X2_overAgain
  refine rk_ofs (fun _ _ _ _ _ k => lv_iconst (v := 0) hx hb dX2_overAgain_0 rfl (lr_istore_n hx hb dX2_overAgain_1 rfl hl (Nat.le_of_ble_eq_true rfl) [0, 1] rfl ⟨trivial, ⟨rfl, trivial⟩⟩ k)) (fun ls hl => ?_)
  refine rk_ofs (fun _ _ _ _ _ k => lv_iconst (v := 0) hx hb dX2_overAgain_2 rfl (lr_istore_n hx hb dX2_overAgain_3 rfl hl (Nat.le_of_ble_eq_true rfl) [0, 1, 2] rfl ⟨rfl, ⟨trivial, ⟨trivial, trivial⟩⟩⟩ k)) (fun ls hl => ?_)
  refine rk_of (fun _ _ _ _ _ k => lr_aload_n hx hb dX2_overAgain_4 rfl (lv_at hl 2 rfl) k) ?_
  refine rk_get zm_rdR_eq C (hc_X2 H) (k := 2) (Nat.le_of_ble_eq_true rfl) in_X2 q199 (fun _ h => h) dX2_overAgain_5 (fun v5 => ?_)
  refine rk_callR hX (cl_dsp (fun ci => cl_case (cl_F (n := 0) (rest := []) (av := []) C (hc_J2 H) (ct_J2_iterator H v5) (lw_F q306 q310 q312 q105 q314) (zh_Fw H C (by decide) q308 q307 q313 q311 q309) (by decide +kernel) ⟨(Nat.le_of_ble_eq_true rfl), (Nat.le_of_ble_eq_true rfl)⟩ rfl hl.1 rfl (zw_le zw_nil (Nat.le_of_ble_eq_true rfl)) dX2_overAgain_8) (cl_case (cl_F (n := 0) (rest := []) (av := []) C (hc_J4 H) (ct_J3_iterator H v5) (lw_F q306 q337 q339 q106 q341) (zh_Fw H C (by decide) q308 q307 q340 q338 q336) (by decide +kernel) ⟨(Nat.le_of_ble_eq_true rfl), (Nat.le_of_ble_eq_true rfl)⟩ rfl hl.1 rfl (zw_le zw_nil (Nat.le_of_ble_eq_true rfl)) dX2_overAgain_8) (cl_fl)))) (fun v8 => ?_)
  refine rk_ofs (fun _ _ _ _ _ k => lr_astore hx hb dX2_overAgain_13 hl (Nat.le_of_ble_eq_true rfl) [0, 1, 3] rfl ⟨rfl, ⟨trivial, ⟨trivial, trivial⟩⟩⟩ k) (fun ls hl => ?_)
  refine rk_join (β := Int32 × Int32) (fun (b74 : Int32 × Int32) ls => lv_has ls 6 [(2, .int b74.1), (3, .int b74.2)]) (fun (b74 : Int32 × Int32) ls => F0 m 74 ls []) (fun b74 ls hl => ?_) (fun hJ74 => ?_)
  · refine rk_of (fun _ _ _ _ _ k => lv_iload_n hx hb dX2_overAgain_74 rfl (lv_at hl 0 rfl) (lv_iload_n hx hb dX2_overAgain_75 rfl (lv_at hl 1 rfl) (lv_isub hx hb dX2_overAgain_76 k))) ?_
    exact rk_top (rf_iret C rfl dX2_overAgain_77)
  · exact rf_X2_overAgain_15 H C hX a1 v8 zm_N 0 0 _ ls (lv_sub hl [3, 0, 2, 1] rfl) hJ74
theorem hd_X1_overAgain : yX1_overAgain.cls ≠ "java/lang/invoke/MethodHandle" ∧ yX1_overAgain.cls ≠ "java/lang/invoke/VarHandle" ∧ (parseMethodDescriptor yX1_overAgain.desc).map (fun d => d.parameters.length) = some 1 := by decide +kernel
noncomputable def fn_X1_overAgain (K : zm_K) (a0 : zm_R) (a1 : Int32) : zm_M Int32 :=
  zm_bnd (fn_X1_requireMinute K a1) fun _ =>
  zm_bnd (zm_getR a0 18 0) fun v5 =>
  zm_bnd (zm_bnd (zm_is v5 19) fun _ => fn_X2_overAgain K v5 a1) fun v9 =>
  zm_ret v9
theorem ct_X1_overAgain {l : Launch} {Ω : zm_W} {K : zm_K} (H : zm_H Ω K) (a0 : zm_R) (a1 : Int32) : zm_Ct l Ω yX1_overAgain (ws_ yX1_overAgain cX1_overAgain 2 (Option.some Jvm.ClassFile.FieldType.int)) 18 440 [va_rf a0, .int a1] zm_tvI (fn_X1_overAgain K a0 a1) := by
  refine zm_ct H.1 (by decide +kernel) (zl_le (zl_R (zl_I zl_nil)) (Nat.le_of_ble_eq_true rfl)) ?_
  intro p e R s m args below meth c n0 k0 C hX ls hl
  have hx := C.1
  have hb := C.2.1
  simp only [zg_I, zg_R, zg_nil] at hl
  have hl : lv_has ls 2 [(0, va_rf a0), (1, .int a1)] := hl
  refine rk_rf ?_
  unfold fn_X1_overAgain
  refine rk_of (fun _ _ _ _ _ k => lv_iload_n hx hb dX1_overAgain_0 rfl (lv_at hl 1 rfl) k) ?_
  refine rk_callV hX (cl_S (rest := []) C (ct_X1_requireMinute H a1) (lw_S q1590 q1591 q101 q1592) hd_X1_requireMinute ⟨(Nat.le_of_ble_eq_true rfl), (Nat.le_of_ble_eq_true rfl)⟩ rfl hl.1 rfl (zw_le zw_nil (Nat.le_of_ble_eq_true rfl)) dX1_overAgain_1) (fun _ => ?_)
  refine rk_of (fun _ _ _ _ _ k => lr_aload_n hx hb dX1_overAgain_4 rfl (lv_at hl 0 rfl) k) ?_
  refine rk_get zm_rdR_eq C (hc_X1 H) (k := 0) (Nat.le_of_ble_eq_true rfl) in_X1 q271 (fun _ h => h) dX1_overAgain_5 (fun v5 => ?_)
  refine rk_of (fun _ _ _ _ _ k => lv_iload_n hx hb dX1_overAgain_8 rfl (lv_at hl 1 rfl) k) ?_
  refine rk_callI hX (cl_V (rest := []) (av := [.int a1]) C (hc_X2 H) (ct_X2_overAgain H v5 a1) (lw_V q1690 q1691 q1692 q102 q1693) ⟨rfl, hd_X2_overAgain⟩ ⟨(Nat.le_of_ble_eq_true rfl), (Nat.le_of_ble_eq_true rfl)⟩ rfl hl.1 rfl (zw_le zw_nil (Nat.le_of_ble_eq_true rfl)) dX1_overAgain_9) (fun v9 => ?_)
  exact rk_top (rf_iret C rfl dX1_overAgain_12)
theorem hd_X0_overAgain : yX0_overAgain.cls ≠ "java/lang/invoke/MethodHandle" ∧ yX0_overAgain.cls ≠ "java/lang/invoke/VarHandle" ∧ (parseMethodDescriptor yX0_overAgain.desc).map (fun d => d.parameters.length) = some 3 := by decide +kernel
noncomputable def fn_X0_overAgain (K : zm_K) (a0 : zm_R) (a1 : Int32) (a2 : zm_R) : zm_M Int32 :=
  zm_cth (zm_bnd (zm_is a0 18) fun _ => fn_X1_overAgain K a0 a1) (fun (E4 : String) (q4 : Nat) =>
      if E4 ∈ (["java/lang/IllegalArgumentException"] : List String) then
        zm_ret 1
      else
        if E4 ∈ (["java/lang/IndexOutOfBoundsException", "java/util/NoSuchElementException", "java/lang/UnsupportedOperationException", "java/lang/ArrayIndexOutOfBoundsException", "java/lang/IllegalStateException", "java/lang/StringIndexOutOfBoundsException", "java/lang/ArithmeticException", "BoxSpans$Refusal", "BoxSpans$TextError"] : List String) then
          zm_thr E4 q4
        else
          zm_fl
    ) fun v4 =>
  zm_bnd (zm_astJ K a2 0 ((v4).toInt64)) fun _ =>
  zm_ret 0
theorem ct_X0_overAgain {l : Launch} {Ω : zm_W} {K : zm_K} (H : zm_H Ω K) (a0 : zm_R) (a1 : Int32) (a2 : zm_R) : zm_Ct l Ω yX0_overAgain (wsW_ yX0_overAgain cX0_overAgain 4 (Option.some Jvm.ClassFile.FieldType.int) [(0, 9, 12, 13)]) 19 461 [va_rf a0, .int a1, va_rf a2] zm_tvI (fn_X0_overAgain K a0 a1 a2) := by
  refine zm_ctW H.1 (by decide +kernel) (zl_le (zl_R (zl_I (zl_R zl_nil))) (Nat.le_of_ble_eq_true rfl)) ?_
  intro p e R s m args below meth c n0 k0 C hN hT ls hl
  have hx := C.1
  have hb := C.2.1
  simp only [zg_I, zg_R, zg_nil] at hl
  have hl : lv_has ls 4 [(0, va_rf a0), (1, .int a1), (2, va_rf a2)] := hl
  refine rk_rf ?_
  unfold fn_X0_overAgain
  refine rk_of (fun _ _ _ _ _ k => lr_aload_n hx hb dX0_overAgain_0 rfl (lv_at hl 2 rfl) (lv_iconst (v := 0) hx hb dX0_overAgain_1 rfl (lr_aload_n hx hb dX0_overAgain_2 rfl (lv_at hl 0 rfl) (lv_iload_n hx hb dX0_overAgain_3 rfl (lv_at hl 1 rfl) k)))) ?_
  refine rk_cthI (cl_V (rest := [.int 0, va_rf a2]) (av := [.int a1]) C (hc_X1 H) (ct_X1_overAgain H a0 a1) (lw_V q1686 q1687 q1688 q101 q1689) ⟨rfl, hd_X1_overAgain⟩ ⟨(Nat.le_of_ble_eq_true rfl), (Nat.le_of_ble_eq_true rfl)⟩ rfl hl.1 rfl (zw_le (zw_I (zw_R zw_nil)) (Nat.le_of_ble_eq_true rfl)) dX0_overAgain_4) (fun E4 q4 => ?_) (fun v4 => ?_)
  · refine rx_ite (fun h4_0 => ?_) (fun h4_0 => ?_)
    · refine rx_cat (k := 0) C hT rfl zp_nil ⟨by decide, by decide⟩ (by decide) q1126 ((zp_cons (P := fun E => (Cond.castable E "java/lang/IllegalArgumentException").before args s = true) (zn_wC H C q597) zp_nil) E4 h4_0) ?_
      refine rk_ofs (fun _ _ _ _ _ k => lr_astore_n hx hb dX0_overAgain_12 rfl hl (Nat.le_of_ble_eq_true rfl) [] rfl trivial k) (fun ls hl => ?_)
      refine rk_of (fun _ _ _ _ _ k => lv_iconst (v := 1) hx hb dX0_overAgain_13 rfl k) ?_
      exact rk_top (rf_iret C rfl dX0_overAgain_14)
    · refine rx_ite (fun h4_x => ?_) (fun _ => rx_fl)
      exact rx_out C hT (zp_cons (Or.inr ⟨by decide, _, q1126, zh_ncs H C (L := ["java/lang/IndexOutOfBoundsException", "java/util/NoSuchElementException", "java/lang/UnsupportedOperationException", "java/lang/ArrayIndexOutOfBoundsException", "java/lang/IllegalStateException", "java/lang/StringIndexOutOfBoundsException", "java/lang/ArithmeticException", "BoxSpans$Refusal", "BoxSpans$TextError"]) (by decide) h4_x⟩) zp_nil)
  refine rk_of (fun _ _ _ _ _ k => lv_i2l hx hb dX0_overAgain_7 rfl k) ?_
  refine rk_last C H.2.2.1 dX0_overAgain_8 ?_
  refine rk_of (fun _ _ _ _ _ k => lv_goto (tgt := 15) hx hb dX0_overAgain_9 (by decide) (lv_iconst (v := 0) hx hb dX0_overAgain_15 rfl k)) ?_
  exact rk_top (rf_iret C rfl dX0_overAgain_16)
theorem hd_X1_requireElement : yX1_requireElement.cls ≠ "java/lang/invoke/MethodHandle" ∧ yX1_requireElement.cls ≠ "java/lang/invoke/VarHandle" ∧ (parseMethodDescriptor yX1_requireElement.desc).map (fun d => d.parameters.length) = some 1 := by decide +kernel
noncomputable def fn_X1_requireElement (K : zm_K) (a0 : Int32) : zm_M Unit :=
  if a0 = 0 then
    zm_bnd (zm_new 12 [.null, .null, .null, .null, .null, .int 0]) fun v4 =>
    zm_bnd (fn_J26_init K (some v4)) fun _ =>
    zm_ath (some v4)
  else
    zm_ret ()
theorem ct_X1_requireElement {l : Launch} {Ω : zm_W} {K : zm_K} (H : zm_H Ω K) (a0 : Int32) : zm_Ct l Ω yX1_requireElement (ws_ yX1_requireElement cX1_requireElement 1 (Option.none : Option Jvm.ClassFile.FieldType)) 8 208 [.int a0] zm_tvV (fn_X1_requireElement K a0) := by
  refine zm_ct H.1 (by decide +kernel) (zl_le (zl_I zl_nil) (Nat.le_of_ble_eq_true rfl)) ?_
  intro p e R s m args below meth c n0 k0 C hX ls hl
  have hx := C.1
  have hb := C.2.1
  simp only [zg_I, zg_nil] at hl
  have hl : lv_has ls 1 [(0, .int a0)] := hl
  refine rk_rf ?_
  unfold fn_X1_requireElement
  refine rk_ite (fun _ _ _ _ _ k1 k2 => lv_iload_n hx hb dX1_requireElement_0 rfl (lv_at hl 0 rfl) (lv_if_ne (tgt := 12) hx hb dX1_requireElement_1 (by decide) k2 k1)) (fun c_1 => ?_) (fun c_1 => ?_)
  · refine rk_new C (hc_J26 H) in_J26 tyJ26_ok q1720 q787 q134 (fs := [.null, .null, .null, .null, .null, .int 0]) rfl (fun j hj => zdf_J26 j hj) dX1_requireElement_4 (fun v4 => ?_)
    refine rk_of (fun _ _ _ _ _ k => lv_dup hx hb dX1_requireElement_7 (va_rf_cat _) k) ?_
    refine rk_callV hX (cl_I (rest := [va_rf (some v4)]) C (ct_J26_init H (some v4)) (lw_meth q797) q134 q1721 q796 rfl hd_J26_init ⟨(Nat.le_of_ble_eq_true rfl), (Nat.le_of_ble_eq_true rfl)⟩ rfl hl.1 rfl (zw_le (zw_R zw_nil) (Nat.le_of_ble_eq_true rfl)) dX1_requireElement_8) (fun _ => ?_)
    exact rk_ath H C hX dX1_requireElement_11
  · exact rk_top (rf_vret C dX1_requireElement_12)
end
