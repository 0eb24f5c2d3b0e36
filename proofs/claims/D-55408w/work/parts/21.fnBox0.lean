/-! what the law reaches, 0 -/
section
variable {p : Program} {l : Launch} {e : Env} {R : Room} {s : State} {m : MethodId} {args : Array Value} {below : List Frame} {meth : Method} {c : Code} {Ω : zm_W} {K : zm_K} {n0 k0 : Nat}
theorem hd_J0_init : yJ0_init.cls ≠ "java/lang/invoke/MethodHandle" ∧ yJ0_init.cls ≠ "java/lang/invoke/VarHandle" ∧ (parseMethodDescriptor yJ0_init.desc).map (fun d => d.parameters.length) = some 0 := by decide +kernel
noncomputable def fn_J0_init (K : zm_K) (a0 : zm_R) : zm_M Unit :=
  zm_bnd (zm_grd (a0 ≠ none)) fun _ =>
  zm_ret ()
theorem ct_J0_init {l : Launch} {Ω : zm_W} {K : zm_K} (H : zm_H Ω K) (a0 : zm_R) : zm_Ct l Ω yJ0_init (ws_ yJ0_init cJ0_init 1 (Option.none : Option Jvm.ClassFile.FieldType)) 2 84 [va_rf a0] zm_tvV (fn_J0_init K a0) := by
  refine zm_ct H.1 (by decide +kernel) (zl_le (zl_R zl_nil) (Nat.le_of_ble_eq_true rfl)) ?_
  intro p e R s m args below meth c n0 k0 C hX ls hl
  have hx := C.1
  have hb := C.2.1
  simp only [zg_R, zg_nil] at hl
  have hl : lv_has ls 1 [(0, va_rf a0)] := hl
  refine rk_rf ?_
  unfold fn_J0_init
  refine rk_of (fun _ _ _ _ _ k => lr_aload_n hx hb dJ0_init_0 rfl (lv_at hl 0 rfl) k) ?_
  refine rk_grd (fun hg_1 => ?_)
  refine rk_of (fun _ _ _ _ _ k => zo_init C hl.1 q175 q156 q157 hg_1 (Nat.le_of_ble_eq_true rfl) (zw_le12 zw_nil (Nat.le_of_ble_eq_true rfl)) dJ0_init_1 k) ?_
  exact rk_top (rf_vret C dJ0_init_4)
theorem hd_J1_init : yJ1_init.cls ≠ "java/lang/invoke/MethodHandle" ∧ yJ1_init.cls ≠ "java/lang/invoke/VarHandle" ∧ (parseMethodDescriptor yJ1_init.desc).map (fun d => d.parameters.length) = some 0 := by decide +kernel
noncomputable def fn_J1_init (K : zm_K) (a0 : zm_R) : zm_M Unit :=
  zm_bnd (zm_bnd (zm_nn a0) fun _ => fn_J0_init K a0) fun _ =>
  zm_bnd (zm_tb a0 [(0, 0), (1, 0)] fun ci k => zm_putF K a0 ci k (.int 0)) fun _ =>
  zm_ret ()
theorem ct_J1_init {l : Launch} {Ω : zm_W} {K : zm_K} (H : zm_H Ω K) (a0 : zm_R) : zm_Ct l Ω yJ1_init (ws_ yJ1_init cJ1_init 1 (Option.none : Option Jvm.ClassFile.FieldType)) 3 104 [va_rf a0] zm_tvV (fn_J1_init K a0) := by
  refine zm_ct H.1 (by decide +kernel) (zl_le (zl_R zl_nil) (Nat.le_of_ble_eq_true rfl)) ?_
  intro p e R s m args below meth c n0 k0 C hX ls hl
  have hx := C.1
  have hb := C.2.1
  simp only [zg_R, zg_nil] at hl
  have hl : lv_has ls 1 [(0, va_rf a0)] := hl
  refine rk_rf ?_
  unfold fn_J1_init
  refine rk_of (fun _ _ _ _ _ k => lr_aload_n hx hb dJ1_init_0 rfl (lv_at hl 0 rfl) k) ?_
  refine rk_callV hX (cl_Ir (rest := []) C (ct_J0_init H a0) (lw_meth q174) q103 q172 q173 rfl hd_J0_init ⟨(Nat.le_of_ble_eq_true rfl), (Nat.le_of_ble_eq_true rfl)⟩ rfl hl.1 rfl (zw_le zw_nil (Nat.le_of_ble_eq_true rfl)) dJ1_init_1) (fun _ => ?_)
  refine rk_of (fun _ _ _ _ _ k => lr_aload_n hx hb dJ1_init_4 rfl (lv_at hl 0 rfl) (lv_iconst (v := 0) hx hb dJ1_init_5 rfl k)) ?_
  refine rk_putT C H.2.2.1 (tb_cons ⟨_, _, _, tyJ2, hc_J2 H, (Nat.le_of_ble_eq_true rfl), in_J2, tyJ2_ok, nmJ2, rfl, rfl⟩ (tb_cons ⟨_, _, _, tyJ4, hc_J4 H, (Nat.le_of_ble_eq_true rfl), in_J4, tyJ4_ok, nmJ4, rfl, rfl⟩ (tb_nil))) q182 rfl rfl dJ1_init_6 ?_
  exact rk_top (rf_vret C dJ1_init_9)
theorem hd_J2_init : yJ2_init.cls ≠ "java/lang/invoke/MethodHandle" ∧ yJ2_init.cls ≠ "java/lang/invoke/VarHandle" ∧ (parseMethodDescriptor yJ2_init.desc).map (fun d => d.parameters.length) = some 0 := by decide +kernel
noncomputable def fn_J2_init (K : zm_K) (a0 : zm_R) : zm_M Unit :=
  zm_bnd (zm_bnd (zm_nn a0) fun _ => fn_J1_init K a0) fun _ =>
  zm_bnd (zm_putF K a0 0 1 (va_rf (K.2 5))) fun _ =>
  zm_ret ()
theorem ct_J2_init {l : Launch} {Ω : zm_W} {K : zm_K} (H : zm_H Ω K) (a0 : zm_R) : zm_Ct l Ω yJ2_init (ws_ yJ2_init cJ2_init 1 (Option.none : Option Jvm.ClassFile.FieldType)) 4 124 [va_rf a0] zm_tvV (fn_J2_init K a0) := by
  refine zm_ct H.1 (by decide +kernel) (zl_le (zl_R zl_nil) (Nat.le_of_ble_eq_true rfl)) ?_
  intro p e R s m args below meth c n0 k0 C hX ls hl
  have hx := C.1
  have hb := C.2.1
  simp only [zg_R, zg_nil] at hl
  have hl : lv_has ls 1 [(0, va_rf a0)] := hl
  refine rk_rf ?_
  unfold fn_J2_init
  refine rk_of (fun _ _ _ _ _ k => lr_aload_n hx hb dJ2_init_0 rfl (lv_at hl 0 rfl) k) ?_
  refine rk_callV hX (cl_Ir (rest := []) C (ct_J1_init H a0) (lw_meth q171) q104 q169 q170 rfl hd_J1_init ⟨(Nat.le_of_ble_eq_true rfl), (Nat.le_of_ble_eq_true rfl)⟩ rfl hl.1 rfl (zw_le zw_nil (Nat.le_of_ble_eq_true rfl)) dJ2_init_1) (fun _ => ?_)
  refine rk_of (fun _ _ _ _ _ k => lr_aload_n hx hb dJ2_init_4 rfl (lv_at hl 0 rfl) k) ?_
  refine rk_gets C (zh_st5 H) q176 (fun _ h => h) dJ2_init_5 ?_
  refine rk_put C H.2.2.1 (hc_J2 H) (k := 1) (Nat.le_of_ble_eq_true rfl) in_J2 (ty0 := tyJ2) tyJ2_ok nmJ2 q178 (fun _ h => h) (Or.inl rfl) (zn_R rfl _) (zp_R rfl _) dJ2_init_8 ?_
  exact rk_top (rf_vret C dJ2_init_11)
theorem hd_X2_init : yX2_init.cls ≠ "java/lang/invoke/MethodHandle" ∧ yX2_init.cls ≠ "java/lang/invoke/VarHandle" ∧ (parseMethodDescriptor yX2_init.desc).map (fun d => d.parameters.length) = some 0 := by decide +kernel
noncomputable def fn_X2_init (K : zm_K) (a0 : zm_R) : zm_M Unit :=
  zm_bnd (zm_grd (a0 ≠ none)) fun _ =>
  zm_bnd (zm_new 0 [.int 0, .null, .int 0]) fun v5 =>
  zm_bnd (fn_J2_init K (some v5)) fun _ =>
  zm_bnd (zm_putF K a0 19 0 (va_rf (some v5))) fun _ =>
  zm_bnd (zm_new 0 [.int 0, .null, .int 0]) fun v16 =>
  zm_bnd (fn_J2_init K (some v16)) fun _ =>
  zm_bnd (zm_putF K a0 19 1 (va_rf (some v16))) fun _ =>
  zm_bnd (zm_new 0 [.int 0, .null, .int 0]) fun v27 =>
  zm_bnd (fn_J2_init K (some v27)) fun _ =>
  zm_bnd (zm_putF K a0 19 2 (va_rf (some v27))) fun _ =>
  zm_ret ()
theorem ct_X2_init {l : Launch} {Ω : zm_W} {K : zm_K} (H : zm_H Ω K) (a0 : zm_R) : zm_Ct l Ω yX2_init (ws_ yX2_init cX2_init 1 (Option.none : Option Jvm.ClassFile.FieldType)) 5 144 [va_rf a0] zm_tvV (fn_X2_init K a0) := by
  refine zm_ct H.1 (by decide +kernel) (zl_le (zl_R zl_nil) (Nat.le_of_ble_eq_true rfl)) ?_
  intro p e R s m args below meth c n0 k0 C hX ls hl
  have hx := C.1
  have hb := C.2.1
  simp only [zg_R, zg_nil] at hl
  have hl : lv_has ls 1 [(0, va_rf a0)] := hl
  refine rk_rf ?_
  unfold fn_X2_init
  refine rk_of (fun _ _ _ _ _ k => lr_aload_n hx hb dX2_init_0 rfl (lv_at hl 0 rfl) k) ?_
  refine rk_grd (fun hg_1 => ?_)
  refine rk_of (fun _ _ _ _ _ k => zo_init C hl.1 q163 q156 q157 hg_1 (Nat.le_of_ble_eq_true rfl) (zw_le12 zw_nil (Nat.le_of_ble_eq_true rfl)) dX2_init_1 k) ?_
  refine rk_of (fun _ _ _ _ _ k => lr_aload_n hx hb dX2_init_4 rfl (lv_at hl 0 rfl) k) ?_
  refine rk_new C (hc_J2 H) in_J2 tyJ2_ok q164 q165 q105 (fs := [.int 0, .null, .int 0]) rfl (fun j hj => zdf_J2 j hj) dX2_init_5 (fun v5 => ?_)
  refine rk_of (fun _ _ _ _ _ k => lv_dup hx hb dX2_init_8 (va_rf_cat _) k) ?_
  refine rk_callV hX (cl_I (rest := [va_rf (some v5), va_rf a0]) C (ct_J2_init H (some v5)) (lw_meth q168) q105 q166 q167 rfl hd_J2_init ⟨(Nat.le_of_ble_eq_true rfl), (Nat.le_of_ble_eq_true rfl)⟩ rfl hl.1 rfl (zw_le (zw_R (zw_R zw_nil)) (Nat.le_of_ble_eq_true rfl)) dX2_init_9) (fun _ => ?_)
  refine rk_put C H.2.2.1 (hc_X2 H) (k := 0) (Nat.le_of_ble_eq_true rfl) in_X2 (ty0 := tyX2) tyX2_ok nmX2 q197 (fun _ h => h) (Or.inr ⟨rfl, rfl, rfl⟩) (zn_R rfl _) (zp_R rfl _) dX2_init_12 ?_
  refine rk_of (fun _ _ _ _ _ k => lr_aload_n hx hb dX2_init_15 rfl (lv_at hl 0 rfl) k) ?_
  refine rk_new C (hc_J2 H) in_J2 tyJ2_ok q164 q165 q105 (fs := [.int 0, .null, .int 0]) rfl (fun j hj => zdf_J2 j hj) dX2_init_16 (fun v16 => ?_)
  refine rk_of (fun _ _ _ _ _ k => lv_dup hx hb dX2_init_19 (va_rf_cat _) k) ?_
  refine rk_callV hX (cl_I (rest := [va_rf (some v16), va_rf a0]) C (ct_J2_init H (some v16)) (lw_meth q168) q105 q166 q167 rfl hd_J2_init ⟨(Nat.le_of_ble_eq_true rfl), (Nat.le_of_ble_eq_true rfl)⟩ rfl hl.1 rfl (zw_le (zw_R (zw_R zw_nil)) (Nat.le_of_ble_eq_true rfl)) dX2_init_20) (fun _ => ?_)
  refine rk_put C H.2.2.1 (hc_X2 H) (k := 1) (Nat.le_of_ble_eq_true rfl) in_X2 (ty0 := tyX2) tyX2_ok nmX2 q198 (fun _ h => h) (Or.inr ⟨rfl, rfl, rfl⟩) (zn_R rfl _) (zp_R rfl _) dX2_init_23 ?_
  refine rk_of (fun _ _ _ _ _ k => lr_aload_n hx hb dX2_init_26 rfl (lv_at hl 0 rfl) k) ?_
  refine rk_new C (hc_J2 H) in_J2 tyJ2_ok q164 q165 q105 (fs := [.int 0, .null, .int 0]) rfl (fun j hj => zdf_J2 j hj) dX2_init_27 (fun v27 => ?_)
  refine rk_of (fun _ _ _ _ _ k => lv_dup hx hb dX2_init_30 (va_rf_cat _) k) ?_
  refine rk_callV hX (cl_I (rest := [va_rf (some v27), va_rf a0]) C (ct_J2_init H (some v27)) (lw_meth q168) q105 q166 q167 rfl hd_J2_init ⟨(Nat.le_of_ble_eq_true rfl), (Nat.le_of_ble_eq_true rfl)⟩ rfl hl.1 rfl (zw_le (zw_R (zw_R zw_nil)) (Nat.le_of_ble_eq_true rfl)) dX2_init_31) (fun _ => ?_)
  refine rk_put C H.2.2.1 (hc_X2 H) (k := 2) (Nat.le_of_ble_eq_true rfl) in_X2 (ty0 := tyX2) tyX2_ok nmX2 q199 (fun _ h => h) (Or.inr ⟨rfl, rfl, rfl⟩) (zn_R rfl _) (zp_R rfl _) dX2_init_34 ?_
  exact rk_top (rf_vret C dX2_init_37)
theorem hd_J3_init : yJ3_init.cls ≠ "java/lang/invoke/MethodHandle" ∧ yJ3_init.cls ≠ "java/lang/invoke/VarHandle" ∧ (parseMethodDescriptor yJ3_init.desc).map (fun d => d.parameters.length) = some 0 := by decide +kernel
noncomputable def fn_J3_init (K : zm_K) (a0 : zm_R) : zm_M Unit :=
  zm_bnd (zm_bnd (zm_nn a0) fun _ => fn_J1_init K a0) fun _ =>
  zm_ret ()
theorem ct_J3_init {l : Launch} {Ω : zm_W} {K : zm_K} (H : zm_H Ω K) (a0 : zm_R) : zm_Ct l Ω yJ3_init (ws_ yJ3_init cJ3_init 1 (Option.none : Option Jvm.ClassFile.FieldType)) 4 124 [va_rf a0] zm_tvV (fn_J3_init K a0) := by
  refine zm_ct H.1 (by decide +kernel) (zl_le (zl_R zl_nil) (Nat.le_of_ble_eq_true rfl)) ?_
  intro p e R s m args below meth c n0 k0 C hX ls hl
  have hx := C.1
  have hb := C.2.1
  simp only [zg_R, zg_nil] at hl
  have hl : lv_has ls 1 [(0, va_rf a0)] := hl
  refine rk_rf ?_
  unfold fn_J3_init
  refine rk_of (fun _ _ _ _ _ k => lr_aload_n hx hb dJ3_init_0 rfl (lv_at hl 0 rfl) k) ?_
  refine rk_callV hX (cl_Ir (rest := []) C (ct_J1_init H a0) (lw_meth q171) q104 q224 q170 rfl hd_J1_init ⟨(Nat.le_of_ble_eq_true rfl), (Nat.le_of_ble_eq_true rfl)⟩ rfl hl.1 rfl (zw_le zw_nil (Nat.le_of_ble_eq_true rfl)) dJ3_init_1) (fun _ => ?_)
  exact rk_top (rf_vret C dJ3_init_4)
theorem hd_J4_init : yJ4_init.cls ≠ "java/lang/invoke/MethodHandle" ∧ yJ4_init.cls ≠ "java/lang/invoke/VarHandle" ∧ (parseMethodDescriptor yJ4_init.desc).map (fun d => d.parameters.length) = some 0 := by decide +kernel
noncomputable def fn_J4_init (K : zm_K) (a0 : zm_R) : zm_M Unit :=
  zm_bnd (zm_bnd (zm_nn a0) fun _ => fn_J3_init K a0) fun _ =>
  zm_bnd (zm_putF K a0 1 1 (.int 0)) fun _ =>
  zm_ret ()
theorem ct_J4_init {l : Launch} {Ω : zm_W} {K : zm_K} (H : zm_H Ω K) (a0 : zm_R) : zm_Ct l Ω yJ4_init (ws_ yJ4_init cJ4_init 1 (Option.none : Option Jvm.ClassFile.FieldType)) 5 144 [va_rf a0] zm_tvV (fn_J4_init K a0) := by
  refine zm_ct H.1 (by decide +kernel) (zl_le (zl_R zl_nil) (Nat.le_of_ble_eq_true rfl)) ?_
  intro p e R s m args below meth c n0 k0 C hX ls hl
  have hx := C.1
  have hb := C.2.1
  simp only [zg_R, zg_nil] at hl
  have hl : lv_has ls 1 [(0, va_rf a0)] := hl
  refine rk_rf ?_
  unfold fn_J4_init
  refine rk_of (fun _ _ _ _ _ k => lr_aload_n hx hb dJ4_init_0 rfl (lv_at hl 0 rfl) k) ?_
  refine rk_callV hX (cl_Ir (rest := []) C (ct_J3_init H a0) (lw_meth q223) q106 q221 q222 rfl hd_J3_init ⟨(Nat.le_of_ble_eq_true rfl), (Nat.le_of_ble_eq_true rfl)⟩ rfl hl.1 rfl (zw_le zw_nil (Nat.le_of_ble_eq_true rfl)) dJ4_init_1) (fun _ => ?_)
  refine rk_of (fun _ _ _ _ _ k => lr_aload_n hx hb dJ4_init_4 rfl (lv_at hl 0 rfl) (lv_iconst (v := 0) hx hb dJ4_init_5 rfl k)) ?_
  refine rk_put C H.2.2.1 (hc_J4 H) (k := 1) (Nat.le_of_ble_eq_true rfl) in_J4 (ty0 := tyJ4) tyJ4_ok nmJ4 q225 (fun _ h => h) (Or.inl rfl) rfl rfl dJ4_init_6 ?_
  exact rk_top (rf_vret C dJ4_init_9)
theorem hd_J8_newBytesLength : yJ8_newBytesLength.cls ≠ "java/lang/invoke/MethodHandle" ∧ yJ8_newBytesLength.cls ≠ "java/lang/invoke/VarHandle" ∧ (parseMethodDescriptor yJ8_newBytesLength.desc).map (fun d => d.parameters.length) = some 1 := by decide +kernel
noncomputable def fn_J8_newBytesLength (K : zm_K) (a0 : Int32) : zm_M Int32 :=
  if 0 ≤ a0 then
    if a0 < 1073741823 then
      zm_ret (a0 <<< (1 &&& 31))
    else
      zm_fl
  else
    zm_fl
theorem ct_J8_newBytesLength {l : Launch} {Ω : zm_W} {K : zm_K} (H : zm_H Ω K) (a0 : Int32) : zm_Ct l Ω yJ8_newBytesLength (ws_ yJ8_newBytesLength cJ8_newBytesLength 1 (Option.some Jvm.ClassFile.FieldType.int)) 1 64 [.int a0] zm_tvI (fn_J8_newBytesLength K a0) := by
  refine zm_ct H.1 (by decide +kernel) (zl_le (zl_I zl_nil) (Nat.le_of_ble_eq_true rfl)) ?_
  intro p e R s m args below meth c n0 k0 C hX ls hl
  have hx := C.1
  have hb := C.2.1
  simp only [zg_I, zg_nil] at hl
  have hl : lv_has ls 1 [(0, .int a0)] := hl
  refine rk_rf ?_
  unfold fn_J8_newBytesLength
  refine rk_ite (fun _ _ _ _ _ k1 k2 => lv_iload_n hx hb dJ8_newBytesLength_0 rfl (lv_at hl 0 rfl) (lv_if_ge (tgt := 12) hx hb dJ8_newBytesLength_1 (by decide) k1 k2)) (fun c_1 => ?_) (fun c_1 => ?_)
  · refine rk_ite (fun _ _ _ _ _ k1 k2 => lv_iload_n hx hb dJ8_newBytesLength_12 rfl (lv_at hl 0 rfl) (lv_ldc (v := 1073741823) hx hb C.2.2.1 (C.2.2.2.1 _ q254) dJ8_newBytesLength_13 (lv_icmp_lt (tgt := 55) hx hb dJ8_newBytesLength_15 (by decide) k1 k2))) (fun c_15 => ?_) (fun c_15 => ?_)
    · refine rk_of (fun _ _ _ _ _ k => lv_iload_n hx hb dJ8_newBytesLength_55 rfl (lv_at hl 0 rfl) (lv_iconst (v := 1) hx hb dJ8_newBytesLength_56 rfl (lv_ishl hx hb dJ8_newBytesLength_57 k))) ?_
      exact rk_top (rf_iret C rfl dJ8_newBytesLength_58)
    · exact rk_fl
  · exact rk_fl
theorem hd_J8_newBytesFor : yJ8_newBytesFor.cls ≠ "java/lang/invoke/MethodHandle" ∧ yJ8_newBytesFor.cls ≠ "java/lang/invoke/VarHandle" ∧ (parseMethodDescriptor yJ8_newBytesFor.desc).map (fun d => d.parameters.length) = some 1 := by decide +kernel
noncomputable def fn_J8_newBytesFor (K : zm_K) (a0 : Int32) : zm_M zm_R :=
  zm_bnd (fn_J8_newBytesLength K a0) fun v1 =>
  zm_bnd (zm_newa .byte (.inl fun _ => 0) v1) fun v4 =>
  zm_ret (some v4)
theorem ct_J8_newBytesFor {l : Launch} {Ω : zm_W} {K : zm_K} (H : zm_H Ω K) (a0 : Int32) : zm_Ct l Ω yJ8_newBytesFor (ws_ yJ8_newBytesFor cJ8_newBytesFor 1 (Option.some (Jvm.ClassFile.FieldType.array Jvm.ClassFile.FieldType.byte))) 2 84 [.int a0] zm_tvR (fn_J8_newBytesFor K a0) := by
  refine zm_ct H.1 (by decide +kernel) (zl_le (zl_I zl_nil) (Nat.le_of_ble_eq_true rfl)) ?_
  intro p e R s m args below meth c n0 k0 C hX ls hl
  have hx := C.1
  have hb := C.2.1
  simp only [zg_I, zg_nil] at hl
  have hl : lv_has ls 1 [(0, .int a0)] := hl
  refine rk_rf ?_
  unfold fn_J8_newBytesFor
  refine rk_of (fun _ _ _ _ _ k => lv_iload_n hx hb dJ8_newBytesFor_0 rfl (lv_at hl 0 rfl) k) ?_
  refine rk_callI hX (cl_S (rest := []) C (ct_J8_newBytesLength H a0) (lw_S q251 q252 q111 q253) hd_J8_newBytesLength ⟨(Nat.le_of_ble_eq_true rfl), (Nat.le_of_ble_eq_true rfl)⟩ rfl hl.1 rfl (zw_le zw_nil (Nat.le_of_ble_eq_true rfl)) dJ8_newBytesFor_1) (fun v1 => ?_)
  refine rk_newa C (atype := .byte) rfl 2 rfl (fun _ _ h => h) (fun _ _ => rfl) q269 dJ8_newBytesFor_4 (fun v4 => ?_)
  exact rk_top (rf_aret C (Or.inr ⟨_, rfl⟩) dJ8_newBytesFor_6)
theorem hd_J5_init : yJ5_init.cls ≠ "java/lang/invoke/MethodHandle" ∧ yJ5_init.cls ≠ "java/lang/invoke/VarHandle" ∧ (parseMethodDescriptor yJ5_init.desc).map (fun d => d.parameters.length) = some 1 := by decide +kernel
noncomputable def fn_J5_init (K : zm_K) (a0 : zm_R) (a1 : Int32) : zm_M Unit :=
  zm_bnd (zm_grd (a0 ≠ none)) fun _ =>
  if (1 : Int32) = 0 then
    zm_bnd (fn_J8_newBytesFor K a1) fun v27 =>
    zm_bnd (zm_putF K a0 2 0 (va_rf v27)) fun _ =>
    zm_bnd (zm_putF K a0 2 1 (.int 1)) fun _ =>
    zm_ret ()
  else
    zm_bnd (zm_newa .byte (.inl fun _ => 0) a1) fun v12 =>
    zm_bnd (zm_putF K a0 2 0 (va_rf (some v12))) fun _ =>
    zm_bnd (zm_putF K a0 2 1 (.int 0)) fun _ =>
    zm_ret ()
theorem ct_J5_init {l : Launch} {Ω : zm_W} {K : zm_K} (H : zm_H Ω K) (a0 : zm_R) (a1 : Int32) : zm_Ct l Ω yJ5_init (ws_ yJ5_init cJ5_init 2 (Option.none : Option Jvm.ClassFile.FieldType)) 3 104 [va_rf a0, .int a1] zm_tvV (fn_J5_init K a0 a1) := by
  refine zm_ct H.1 (by decide +kernel) (zl_le (zl_R (zl_I zl_nil)) (Nat.le_of_ble_eq_true rfl)) ?_
  intro p e R s m args below meth c n0 k0 C hX ls hl
  have hx := C.1
  have hb := C.2.1
  simp only [zg_I, zg_R, zg_nil] at hl
  have hl : lv_has ls 2 [(0, va_rf a0), (1, .int a1)] := hl
  refine rk_rf ?_
  unfold fn_J5_init
  refine rk_of (fun _ _ _ _ _ k => lr_aload_n hx hb dJ5_init_0 rfl (lv_at hl 0 rfl) k) ?_
  refine rk_grd (fun hg_1 => ?_)
  refine rk_of (fun _ _ _ _ _ k => zo_init C hl.1 q245 q156 q157 hg_1 (Nat.le_of_ble_eq_true rfl) (zw_le12 zw_nil (Nat.le_of_ble_eq_true rfl)) dJ5_init_1 k) ?_
  refine rk_gets C (zh_it1 H) q246 (fun _ h => h) dJ5_init_4 ?_
  refine rk_ite (fun _ _ _ _ _ k1 k2 => lv_if_eq (tgt := 25) hx hb dJ5_init_7 (by decide) k1 k2) (fun c_7 => ?_) (fun c_7 => ?_)
  · refine rk_of (fun _ _ _ _ _ k => lr_aload_n hx hb dJ5_init_25 rfl (lv_at hl 0 rfl) (lv_iload_n hx hb dJ5_init_26 rfl (lv_at hl 1 rfl) k)) ?_
    refine rk_callR hX (cl_S (rest := [va_rf a0]) C (ct_J8_newBytesFor H a1) (lw_S q248 q249 q111 q250) hd_J8_newBytesFor ⟨(Nat.le_of_ble_eq_true rfl), (Nat.le_of_ble_eq_true rfl)⟩ rfl hl.1 rfl (zw_le (zw_R zw_nil) (Nat.le_of_ble_eq_true rfl)) dJ5_init_27) (fun v27 => ?_)
    refine rk_put C H.2.2.1 (hc_J6 H) (k := 0) (Nat.le_of_ble_eq_true rfl) in_J6 (ty0 := tyJ6) tyJ6_ok nmJ6 q255 (fun _ h => h) (Or.inl rfl) (zn_R rfl _) (zp_R rfl _) dJ5_init_30 ?_
    refine rk_of (fun _ _ _ _ _ k => lr_aload_n hx hb dJ5_init_33 rfl (lv_at hl 0 rfl) (lv_iconst (v := 1) hx hb dJ5_init_34 rfl k)) ?_
    refine rk_put C H.2.2.1 (hc_J6 H) (k := 1) (Nat.le_of_ble_eq_true rfl) in_J6 (ty0 := tyJ6) tyJ6_ok nmJ6 q256 (fun _ h => h) (Or.inl rfl) rfl rfl dJ5_init_35 ?_
    exact rk_top (rf_vret C dJ5_init_38)
  · refine rk_of (fun _ _ _ _ _ k => lr_aload_n hx hb dJ5_init_10 rfl (lv_at hl 0 rfl) (lv_iload_n hx hb dJ5_init_11 rfl (lv_at hl 1 rfl) k)) ?_
    refine rk_newa C (atype := .byte) rfl 2 rfl (fun _ _ h => h) (fun _ _ => rfl) q269 dJ5_init_12 (fun v12 => ?_)
    refine rk_put C H.2.2.1 (hc_J6 H) (k := 0) (Nat.le_of_ble_eq_true rfl) in_J6 (ty0 := tyJ6) tyJ6_ok nmJ6 q255 (fun _ h => h) (Or.inl rfl) (zn_R rfl _) (zp_R rfl _) dJ5_init_14 ?_
    refine rk_of (fun _ _ _ _ _ k => lr_aload_n hx hb dJ5_init_17 rfl (lv_at hl 0 rfl) (lv_iconst (v := 0) hx hb dJ5_init_18 rfl k)) ?_
    refine rk_put C H.2.2.1 (hc_J6 H) (k := 1) (Nat.le_of_ble_eq_true rfl) in_J6 (ty0 := tyJ6) tyJ6_ok nmJ6 q256 (fun _ h => h) (Or.inl rfl) rfl rfl dJ5_init_19 ?_
    refine rk_of (fun _ _ _ _ _ k => lv_goto (tgt := 38) hx hb dJ5_init_22 (by decide) k) ?_
    exact rk_top (rf_vret C dJ5_init_38)
theorem hd_J6_init : yJ6_init.cls ≠ "java/lang/invoke/MethodHandle" ∧ yJ6_init.cls ≠ "java/lang/invoke/VarHandle" ∧ (parseMethodDescriptor yJ6_init.desc).map (fun d => d.parameters.length) = some 0 := by decide +kernel
noncomputable def fn_J6_init (K : zm_K) (a0 : zm_R) : zm_M Unit :=
  zm_bnd (zm_bnd (zm_nn a0) fun _ => fn_J5_init K a0 16) fun _ =>
  zm_ret ()
theorem ct_J6_init {l : Launch} {Ω : zm_W} {K : zm_K} (H : zm_H Ω K) (a0 : zm_R) : zm_Ct l Ω yJ6_init (ws_ yJ6_init cJ6_init 1 (Option.none : Option Jvm.ClassFile.FieldType)) 4 125 [va_rf a0] zm_tvV (fn_J6_init K a0) := by
  refine zm_ct H.1 (by decide +kernel) (zl_le (zl_R zl_nil) (Nat.le_of_ble_eq_true rfl)) ?_
  intro p e R s m args below meth c n0 k0 C hX ls hl
  have hx := C.1
  have hb := C.2.1
  simp only [zg_R, zg_nil] at hl
  have hl : lv_has ls 1 [(0, va_rf a0)] := hl
  refine rk_rf ?_
  unfold fn_J6_init
  refine rk_of (fun _ _ _ _ _ k => lr_aload_n hx hb dJ6_init_0 rfl (lv_at hl 0 rfl) (lv_bipush (v := 16) hx hb dJ6_init_1 rfl k)) ?_
  refine rk_callV hX (cl_Ir (rest := []) C (ct_J5_init H a0 16) (lw_meth q244) q108 q242 q243 rfl hd_J5_init ⟨(Nat.le_of_ble_eq_true rfl), (Nat.le_of_ble_eq_true rfl)⟩ rfl hl.1 rfl (zw_le zw_nil (Nat.le_of_ble_eq_true rfl)) dJ6_init_3) (fun _ => ?_)
  exact rk_top (rf_vret C dJ6_init_6)
theorem hd_X1_init : yX1_init.cls ≠ "java/lang/invoke/MethodHandle" ∧ yX1_init.cls ≠ "java/lang/invoke/VarHandle" ∧ (parseMethodDescriptor yX1_init.desc).map (fun d => d.parameters.length) = some 0 := by decide +kernel
noncomputable def fn_X1_init (K : zm_K) (a0 : zm_R) : zm_M Unit :=
  zm_bnd (zm_grd (a0 ≠ none)) fun _ =>
  zm_bnd (zm_new 19 [.null, .null, .null, .int 0, .int 0, .int 0]) fun v5 =>
  zm_bnd (fn_X2_init K (some v5)) fun _ =>
  zm_bnd (zm_putF K a0 18 0 (va_rf (some v5))) fun _ =>
  zm_bnd (zm_new 1 [.int 0, .int 0, .null, .null]) fun v16 =>
  zm_bnd (fn_J4_init K (some v16)) fun _ =>
  zm_bnd (zm_putF K a0 18 2 (va_rf (some v16))) fun _ =>
  zm_bnd (zm_new 2 [.null, .int 0, .int 0, .int 0]) fun v27 =>
  zm_bnd (fn_J6_init K (some v27)) fun _ =>
  zm_bnd (zm_putF K a0 18 3 (va_rf (some v27))) fun _ =>
  zm_bnd (zm_putF K a0 18 4 (.int (-1))) fun _ =>
  zm_bnd (zm_putF K a0 18 6 (va_rf (K.2 8))) fun _ =>
  zm_ret ()
theorem ct_X1_init {l : Launch} {Ω : zm_W} {K : zm_K} (H : zm_H Ω K) (a0 : zm_R) : zm_Ct l Ω yX1_init (ws_ yX1_init cX1_init 1 (Option.none : Option Jvm.ClassFile.FieldType)) 6 164 [va_rf a0] zm_tvV (fn_X1_init K a0) := by
  refine zm_ct H.1 (by decide +kernel) (zl_le (zl_R zl_nil) (Nat.le_of_ble_eq_true rfl)) ?_
  intro p e R s m args below meth c n0 k0 C hX ls hl
  have hx := C.1
  have hb := C.2.1
  simp only [zg_R, zg_nil] at hl
  have hl : lv_has ls 1 [(0, va_rf a0)] := hl
  refine rk_rf ?_
  unfold fn_X1_init
  refine rk_of (fun _ _ _ _ _ k => lr_aload_n hx hb dX1_init_0 rfl (lv_at hl 0 rfl) k) ?_
  refine rk_grd (fun hg_1 => ?_)
  refine rk_of (fun _ _ _ _ _ k => zo_init C hl.1 q155 q156 q157 hg_1 (Nat.le_of_ble_eq_true rfl) (zw_le12 zw_nil (Nat.le_of_ble_eq_true rfl)) dX1_init_1 k) ?_
  refine rk_of (fun _ _ _ _ _ k => lr_aload_n hx hb dX1_init_4 rfl (lv_at hl 0 rfl) k) ?_
  refine rk_new C (hc_X2 H) in_X2 tyX2_ok q158 q159 q102 (fs := [.null, .null, .null, .int 0, .int 0, .int 0]) rfl (fun j hj => zdf_X2 j hj) dX1_init_5 (fun v5 => ?_)
  refine rk_of (fun _ _ _ _ _ k => lv_dup hx hb dX1_init_8 (va_rf_cat _) k) ?_
  refine rk_callV hX (cl_IN (rest := [va_rf (some v5), va_rf a0]) C (ct_X2_init H (some v5)) (lw_meth q162) q102 (zn_wM H C q160) q161 rfl hd_X2_init ⟨(Nat.le_of_ble_eq_true rfl), (Nat.le_of_ble_eq_true rfl)⟩ rfl hl.1 rfl (zw_le (zw_R (zw_R zw_nil)) (Nat.le_of_ble_eq_true rfl)) dX1_init_9) (fun _ => ?_)
  refine rk_put C H.2.2.1 (hc_X1 H) (k := 0) (Nat.le_of_ble_eq_true rfl) in_X1 (ty0 := tyX1) tyX1_ok nmX1 q271 (fun _ h => h) (Or.inl rfl) (zn_R rfl _) (zp_R rfl _) dX1_init_12 ?_
  refine rk_of (fun _ _ _ _ _ k => lr_aload_n hx hb dX1_init_15 rfl (lv_at hl 0 rfl) k) ?_
  refine rk_new C (hc_J4 H) in_J4 tyJ4_ok q216 q217 q107 (fs := [.int 0, .int 0, .null, .null]) rfl (fun j hj => zdf_J4 j hj) dX1_init_16 (fun v16 => ?_)
  refine rk_of (fun _ _ _ _ _ k => lv_dup hx hb dX1_init_19 (va_rf_cat _) k) ?_
  refine rk_callV hX (cl_I (rest := [va_rf (some v16), va_rf a0]) C (ct_J4_init H (some v16)) (lw_meth q220) q107 q218 q219 rfl hd_J4_init ⟨(Nat.le_of_ble_eq_true rfl), (Nat.le_of_ble_eq_true rfl)⟩ rfl hl.1 rfl (zw_le (zw_R (zw_R zw_nil)) (Nat.le_of_ble_eq_true rfl)) dX1_init_20) (fun _ => ?_)
  refine rk_put C H.2.2.1 (hc_X1 H) (k := 2) (Nat.le_of_ble_eq_true rfl) in_X1 (ty0 := tyX1) tyX1_ok nmX1 q273 (fun _ h => h) (Or.inr ⟨rfl, rfl, rfl⟩) (zn_R rfl _) (zp_R rfl _) dX1_init_23 ?_
  refine rk_of (fun _ _ _ _ _ k => lr_aload_n hx hb dX1_init_26 rfl (lv_at hl 0 rfl) k) ?_
  refine rk_new C (hc_J6 H) in_J6 tyJ6_ok q237 q238 q109 (fs := [.null, .int 0, .int 0, .int 0]) rfl (fun j hj => zdf_J6 j hj) dX1_init_27 (fun v27 => ?_)
  refine rk_of (fun _ _ _ _ _ k => lv_dup hx hb dX1_init_30 (va_rf_cat _) k) ?_
  refine rk_callV hX (cl_I (rest := [va_rf (some v27), va_rf a0]) C (ct_J6_init H (some v27)) (lw_meth q241) q109 q239 q240 rfl hd_J6_init ⟨(Nat.le_of_ble_eq_true rfl), (Nat.le_of_ble_eq_true rfl)⟩ rfl hl.1 rfl (zw_le (zw_R (zw_R zw_nil)) (Nat.le_of_ble_eq_true rfl)) dX1_init_31) (fun _ => ?_)
  refine rk_put C H.2.2.1 (hc_X1 H) (k := 3) (Nat.le_of_ble_eq_true rfl) in_X1 (ty0 := tyX1) tyX1_ok nmX1 q274 (fun _ h => h) (Or.inr ⟨rfl, rfl, rfl⟩) (zn_R rfl _) (zp_R rfl _) dX1_init_34 ?_
  refine rk_of (fun _ _ _ _ _ k => lr_aload_n hx hb dX1_init_37 rfl (lv_at hl 0 rfl) (lv_iconst (v := (-1)) hx hb dX1_init_38 rfl k)) ?_
  refine rk_put C H.2.2.1 (hc_X1 H) (k := 4) (Nat.le_of_ble_eq_true rfl) in_X1 (ty0 := tyX1) tyX1_ok nmX1 q275 (fun _ h => h) (Or.inl rfl) rfl rfl dX1_init_39 ?_
  refine rk_of (fun _ _ _ _ _ k => lr_aload_n hx hb dX1_init_42 rfl (lv_at hl 0 rfl) (zs_ldc C (zh_s8 H) dX1_init_43 k)) ?_
  refine rk_put C H.2.2.1 (hc_X1 H) (k := 6) (Nat.le_of_ble_eq_true rfl) in_X1 (ty0 := tyX1) tyX1_ok nmX1 q277 (fun _ h => h) (Or.inl rfl) (zn_R rfl _) (zp_R rfl _) dX1_init_45 ?_
  exact rk_top (rf_vret C dX1_init_48)
theorem hd_X1_isIn : yX1_isIn.cls ≠ "java/lang/invoke/MethodHandle" ∧ yX1_isIn.cls ≠ "java/lang/invoke/VarHandle" ∧ (parseMethodDescriptor yX1_isIn.desc).map (fun d => d.parameters.length) = some 3 := by decide +kernel
noncomputable def fn_X1_isIn (K : zm_K) (a0 : Int32) (a1 : Int32) (a2 : Int32) : zm_M Int32 :=
  if a0 < a1 then
    zm_ret 0
  else
    if a2 < a0 then
      zm_ret 0
    else
      zm_ret 1
theorem ct_X1_isIn {l : Launch} {Ω : zm_W} {K : zm_K} (H : zm_H Ω K) (a0 : Int32) (a1 : Int32) (a2 : Int32) : zm_Ct l Ω yX1_isIn (ws_ yX1_isIn cX1_isIn 3 (Option.some Jvm.ClassFile.FieldType.boolean)) 1 64 [.int a0, .int a1, .int a2] zm_tvI (fn_X1_isIn K a0 a1 a2) := by
  refine zm_ct H.1 (by decide +kernel) (zl_le (zl_I (zl_I (zl_I zl_nil))) (Nat.le_of_ble_eq_true rfl)) ?_
  intro p e R s m args below meth c n0 k0 C hX ls hl
  have hx := C.1
  have hb := C.2.1
  simp only [zg_I, zg_nil] at hl
  have hl : lv_has ls 3 [(0, .int a0), (1, .int a1), (2, .int a2)] := hl
  refine rk_rf ?_
  unfold fn_X1_isIn
  refine rk_ite (fun _ _ _ _ _ k1 k2 => lv_iload_n hx hb dX1_isIn_0 rfl (lv_at hl 0 rfl) (lv_iload_n hx hb dX1_isIn_1 rfl (lv_at hl 1 rfl) (lv_icmp_lt (tgt := 14) hx hb dX1_isIn_2 (by decide) k1 k2))) (fun c_2 => ?_) (fun c_2 => ?_)
  · refine rk_of (fun _ _ _ _ _ k => lv_iconst (v := 0) hx hb dX1_isIn_14 rfl k) ?_
    exact rk_top (rf_iret C rfl dX1_isIn_15)
  · refine rk_ite (fun _ _ _ _ _ k1 k2 => lv_iload_n hx hb dX1_isIn_5 rfl (lv_at hl 0 rfl) (lv_iload_n hx hb dX1_isIn_6 rfl (lv_at hl 2 rfl) (lv_icmp_gt (tgt := 14) hx hb dX1_isIn_7 (by decide) k1 k2))) (fun c_7 => ?_) (fun c_7 => ?_)
    · refine rk_of (fun _ _ _ _ _ k => lv_iconst (v := 0) hx hb dX1_isIn_14 rfl k) ?_
      exact rk_top (rf_iret C rfl dX1_isIn_15)
    · refine rk_of (fun _ _ _ _ _ k => lv_iconst (v := 1) hx hb dX1_isIn_10 rfl (lv_goto (tgt := 15) hx hb dX1_isIn_11 (by decide) k)) ?_
      exact rk_top (rf_iret C rfl dX1_isIn_15)
theorem hd_J9_init : yJ9_init.cls ≠ "java/lang/invoke/MethodHandle" ∧ yJ9_init.cls ≠ "java/lang/invoke/VarHandle" ∧ (parseMethodDescriptor yJ9_init.desc).map (fun d => d.parameters.length) = some 0 := by decide +kernel
noncomputable def fn_J9_init (K : zm_K) (a0 : zm_R) : zm_M Unit :=
  zm_bnd (zm_grd (a0 ≠ none)) fun _ =>
  zm_bnd (zm_tb a0 [(5, 0), (8, 0), (12, 0), (13, 0), (14, 2), (15, 0), (16, 2), (17, 2), (21, 0), (28, 0)] fun ci k => zm_putF K a0 ci k (va_rf a0)) fun _ =>
  zm_bnd (zm_tb a0 [(5, 1), (8, 1), (12, 1), (13, 1), (14, 3), (15, 1), (16, 3), (17, 3), (21, 1), (28, 1)] fun ci k => zm_putF K a0 ci k (va_rf (K.2 4))) fun _ =>
  zm_bnd (zm_tb a0 [(5, 2), (8, 2), (12, 2), (13, 2), (14, 5), (15, 2), (16, 5), (17, 5), (21, 2), (28, 2)] fun ci k => zm_putF K a0 ci k (va_rf (K.2 3))) fun _ =>
  zm_bnd (zm_tb a0 [(5, 1), (8, 1), (12, 1), (13, 1), (14, 3), (15, 1), (17, 3), (21, 1), (28, 1)] fun ci k => zm_filF K a0 ci k) fun _ =>
  zm_ret ()
theorem ct_J9_init {l : Launch} {Ω : zm_W} {K : zm_K} (H : zm_H Ω K) (a0 : zm_R) : zm_Ct l Ω yJ9_init (ws_ yJ9_init cJ9_init 1 (Option.none : Option Jvm.ClassFile.FieldType)) 4 128 [va_rf a0] zm_tvV (fn_J9_init K a0) := by
  refine zm_ct H.1 (by decide +kernel) (zl_le (zl_R zl_nil) (Nat.le_of_ble_eq_true rfl)) ?_
  intro p e R s m args below meth c n0 k0 C hX ls hl
  have hx := C.1
  have hb := C.2.1
  simp only [zg_R, zg_nil] at hl
  have hl : lv_has ls 1 [(0, va_rf a0)] := hl
  refine rk_rf ?_
  unfold fn_J9_init
  refine rk_of (fun _ _ _ _ _ k => lr_aload_n hx hb dJ9_init_0 rfl (lv_at hl 0 rfl) k) ?_
  refine rk_grd (fun hg_1 => ?_)
  refine rk_of (fun _ _ _ _ _ k => zo_init C hl.1 q383 q156 q157 hg_1 (Nat.le_of_ble_eq_true rfl) (zw_le12 zw_nil (Nat.le_of_ble_eq_true rfl)) dJ9_init_1 k) ?_
  refine rk_of (fun _ _ _ _ _ k => lr_aload_n hx hb dJ9_init_4 rfl (lv_at hl 0 rfl) (lr_aload_n hx hb dJ9_init_5 rfl (lv_at hl 0 rfl) k)) ?_
  refine rk_putT C H.2.2.1 (tb_cons ⟨_, _, _, tyJ12, hc_J12 H, (Nat.le_of_ble_eq_true rfl), in_J12, tyJ12_ok, nmJ12, rfl, rfl⟩ (tb_cons ⟨_, _, _, tyJ19, hc_J19 H, (Nat.le_of_ble_eq_true rfl), in_J19, tyJ19_ok, nmJ19, rfl, rfl⟩ (tb_cons ⟨_, _, _, tyJ26, hc_J26 H, (Nat.le_of_ble_eq_true rfl), in_J26, tyJ26_ok, nmJ26, rfl, rfl⟩ (tb_cons ⟨_, _, _, tyJ28, hc_J28 H, (Nat.le_of_ble_eq_true rfl), in_J28, tyJ28_ok, nmJ28, rfl, rfl⟩ (tb_cons ⟨_, _, _, tyJ29, hc_J29 H, (Nat.le_of_ble_eq_true rfl), in_J29, tyJ29_ok, nmJ29, rfl, rfl⟩ (tb_cons ⟨_, _, _, tyJ30, hc_J30 H, (Nat.le_of_ble_eq_true rfl), in_J30, tyJ30_ok, nmJ30, rfl, rfl⟩ (tb_cons ⟨_, _, _, tyJ31, hc_J31 H, (Nat.le_of_ble_eq_true rfl), in_J31, tyJ31_ok, nmJ31, rfl, rfl⟩ (tb_cons ⟨_, _, _, tyJ32, hc_J32 H, (Nat.le_of_ble_eq_true rfl), in_J32, tyJ32_ok, nmJ32, rfl, rfl⟩ (tb_cons ⟨_, _, _, tyX4, hc_X4 H, (Nat.le_of_ble_eq_true rfl), in_X4, tyX4_ok, nmX4, rfl, rfl⟩ (tb_cons ⟨_, _, _, tyX12, hc_X12 H, (Nat.le_of_ble_eq_true rfl), in_X12, tyX12_ok, nmX12, rfl, rfl⟩ (tb_nil))))))))))) q624 (zn_R rfl _) (zp_R rfl _) dJ9_init_6 ?_
  refine rk_of (fun _ _ _ _ _ k => lr_aload_n hx hb dJ9_init_9 rfl (lv_at hl 0 rfl) k) ?_
  refine rk_gets C (zh_st4 H) q384 (fun _ h => h) dJ9_init_10 ?_
  refine rk_putT C H.2.2.1 (tb_cons ⟨_, _, _, tyJ12, hc_J12 H, (Nat.le_of_ble_eq_true rfl), in_J12, tyJ12_ok, nmJ12, rfl, rfl⟩ (tb_cons ⟨_, _, _, tyJ19, hc_J19 H, (Nat.le_of_ble_eq_true rfl), in_J19, tyJ19_ok, nmJ19, rfl, rfl⟩ (tb_cons ⟨_, _, _, tyJ26, hc_J26 H, (Nat.le_of_ble_eq_true rfl), in_J26, tyJ26_ok, nmJ26, rfl, rfl⟩ (tb_cons ⟨_, _, _, tyJ28, hc_J28 H, (Nat.le_of_ble_eq_true rfl), in_J28, tyJ28_ok, nmJ28, rfl, rfl⟩ (tb_cons ⟨_, _, _, tyJ29, hc_J29 H, (Nat.le_of_ble_eq_true rfl), in_J29, tyJ29_ok, nmJ29, rfl, rfl⟩ (tb_cons ⟨_, _, _, tyJ30, hc_J30 H, (Nat.le_of_ble_eq_true rfl), in_J30, tyJ30_ok, nmJ30, rfl, rfl⟩ (tb_cons ⟨_, _, _, tyJ31, hc_J31 H, (Nat.le_of_ble_eq_true rfl), in_J31, tyJ31_ok, nmJ31, rfl, rfl⟩ (tb_cons ⟨_, _, _, tyJ32, hc_J32 H, (Nat.le_of_ble_eq_true rfl), in_J32, tyJ32_ok, nmJ32, rfl, rfl⟩ (tb_cons ⟨_, _, _, tyX4, hc_X4 H, (Nat.le_of_ble_eq_true rfl), in_X4, tyX4_ok, nmX4, rfl, rfl⟩ (tb_cons ⟨_, _, _, tyX12, hc_X12 H, (Nat.le_of_ble_eq_true rfl), in_X12, tyX12_ok, nmX12, rfl, rfl⟩ (tb_nil))))))))))) q625 (zn_R rfl _) (zp_R rfl _) dJ9_init_13 ?_
  refine rk_of (fun _ _ _ _ _ k => lr_aload_n hx hb dJ9_init_16 rfl (lv_at hl 0 rfl) k) ?_
  refine rk_gets C (zh_st3 H) q386 (fun _ h => h) dJ9_init_17 ?_
  refine rk_putT C H.2.2.1 (tb_cons ⟨_, _, _, tyJ12, hc_J12 H, (Nat.le_of_ble_eq_true rfl), in_J12, tyJ12_ok, nmJ12, rfl, rfl⟩ (tb_cons ⟨_, _, _, tyJ19, hc_J19 H, (Nat.le_of_ble_eq_true rfl), in_J19, tyJ19_ok, nmJ19, rfl, rfl⟩ (tb_cons ⟨_, _, _, tyJ26, hc_J26 H, (Nat.le_of_ble_eq_true rfl), in_J26, tyJ26_ok, nmJ26, rfl, rfl⟩ (tb_cons ⟨_, _, _, tyJ28, hc_J28 H, (Nat.le_of_ble_eq_true rfl), in_J28, tyJ28_ok, nmJ28, rfl, rfl⟩ (tb_cons ⟨_, _, _, tyJ29, hc_J29 H, (Nat.le_of_ble_eq_true rfl), in_J29, tyJ29_ok, nmJ29, rfl, rfl⟩ (tb_cons ⟨_, _, _, tyJ30, hc_J30 H, (Nat.le_of_ble_eq_true rfl), in_J30, tyJ30_ok, nmJ30, rfl, rfl⟩ (tb_cons ⟨_, _, _, tyJ31, hc_J31 H, (Nat.le_of_ble_eq_true rfl), in_J31, tyJ31_ok, nmJ31, rfl, rfl⟩ (tb_cons ⟨_, _, _, tyJ32, hc_J32 H, (Nat.le_of_ble_eq_true rfl), in_J32, tyJ32_ok, nmJ32, rfl, rfl⟩ (tb_cons ⟨_, _, _, tyX4, hc_X4 H, (Nat.le_of_ble_eq_true rfl), in_X4, tyX4_ok, nmX4, rfl, rfl⟩ (tb_cons ⟨_, _, _, tyX12, hc_X12 H, (Nat.le_of_ble_eq_true rfl), in_X12, tyX12_ok, nmX12, rfl, rfl⟩ (tb_nil))))))))))) q626 (zn_R rfl _) (zp_R rfl _) dJ9_init_20 ?_
  refine rk_of (fun _ _ _ _ _ k => lr_aload_n hx hb dJ9_init_23 rfl (lv_at hl 0 rfl) k) ?_
  refine rk_filT H C (zh_thr H C) (tb_cons ⟨_, _, _, tyJ12, hc_J12 H, (Nat.le_of_ble_eq_true rfl), in_J12, tyJ12_ok, nmJ12, rfl, (C.2.2.2.1 _ q395), (C.2.2.2.1 _ q598)⟩ (tb_cons ⟨_, _, _, tyJ19, hc_J19 H, (Nat.le_of_ble_eq_true rfl), in_J19, tyJ19_ok, nmJ19, rfl, (C.2.2.2.1 _ q368), (C.2.2.2.1 _ q367)⟩ (tb_cons ⟨_, _, _, tyJ26, hc_J26 H, (Nat.le_of_ble_eq_true rfl), in_J26, tyJ26_ok, nmJ26, rfl, (C.2.2.2.1 _ q399), (C.2.2.2.1 _ q789)⟩ (tb_cons ⟨_, _, _, tyJ28, hc_J28 H, (Nat.le_of_ble_eq_true rfl), in_J28, tyJ28_ok, nmJ28, rfl, (C.2.2.2.1 _ q398), (C.2.2.2.1 _ q1358)⟩ (tb_cons ⟨_, _, _, tyJ29, hc_J29 H, (Nat.le_of_ble_eq_true rfl), in_J29, tyJ29_ok, nmJ29, rfl, (C.2.2.2.1 _ q394), (C.2.2.2.1 _ q1388)⟩ (tb_cons ⟨_, _, _, tyJ30, hc_J30 H, (Nat.le_of_ble_eq_true rfl), in_J30, tyJ30_ok, nmJ30, rfl, (C.2.2.2.1 _ q396), (C.2.2.2.1 _ q1932)⟩ (tb_cons ⟨_, _, _, tyJ32, hc_J32 H, (Nat.le_of_ble_eq_true rfl), in_J32, tyJ32_ok, nmJ32, rfl, (C.2.2.2.1 _ q393), (C.2.2.2.1 _ q2523)⟩ (tb_cons ⟨_, _, _, tyX4, hc_X4 H, (Nat.le_of_ble_eq_true rfl), in_X4, tyX4_ok, nmX4, rfl, (C.2.2.2.1 _ q391), (C.2.2.2.1 _ q1155)⟩ (tb_cons ⟨_, _, _, tyX12, hc_X12 H, (Nat.le_of_ble_eq_true rfl), in_X12, tyX12_ok, nmX12, rfl, (C.2.2.2.1 _ q392), (C.2.2.2.1 _ q2147)⟩ (tb_nil)))))))))) q388 (Nat.le_of_ble_eq_true rfl) (zw_ad zw_nil (Nat.le_of_ble_eq_true rfl)) hl.1 dJ9_init_24 ?_
  refine rk_of (fun _ _ _ _ _ k => lv_pop hx hb dJ9_init_27 (va_rf_cat _) k) ?_
  exact rk_top (rf_vret C dJ9_init_28)
theorem hd_J10_init_2 : yJ10_init_2.cls ≠ "java/lang/invoke/MethodHandle" ∧ yJ10_init_2.cls ≠ "java/lang/invoke/VarHandle" ∧ (parseMethodDescriptor yJ10_init_2.desc).map (fun d => d.parameters.length) = some 0 := by decide +kernel
noncomputable def fn_J10_init_2 (K : zm_K) (a0 : zm_R) : zm_M Unit :=
  zm_bnd (zm_bnd (zm_nn a0) fun _ => fn_J9_init K a0) fun _ =>
  zm_ret ()
theorem ct_J10_init_2 {l : Launch} {Ω : zm_W} {K : zm_K} (H : zm_H Ω K) (a0 : zm_R) : zm_Ct l Ω yJ10_init_2 (ws_ yJ10_init_2 cJ10_init_2 1 (Option.none : Option Jvm.ClassFile.FieldType)) 5 148 [va_rf a0] zm_tvV (fn_J10_init_2 K a0) := by
  refine zm_ct H.1 (by decide +kernel) (zl_le (zl_R zl_nil) (Nat.le_of_ble_eq_true rfl)) ?_
  intro p e R s m args below meth c n0 k0 C hX ls hl
  have hx := C.1
  have hb := C.2.1
  simp only [zg_R, zg_nil] at hl
  have hl : lv_has ls 1 [(0, va_rf a0)] := hl
  refine rk_rf ?_
  unfold fn_J10_init_2
  refine rk_of (fun _ _ _ _ _ k => lr_aload_n hx hb dJ10_init_2_0 rfl (lv_at hl 0 rfl) k) ?_
  refine rk_callV hX (cl_Ir (rest := []) C (ct_J9_init H a0) (lw_meth q382) q113 q804 q381 rfl hd_J9_init ⟨(Nat.le_of_ble_eq_true rfl), (Nat.le_of_ble_eq_true rfl)⟩ rfl hl.1 rfl (zw_le zw_nil (Nat.le_of_ble_eq_true rfl)) dJ10_init_2_1) (fun _ => ?_)
  exact rk_top (rf_vret C dJ10_init_2_4)
theorem hd_J11_init_2 : yJ11_init_2.cls ≠ "java/lang/invoke/MethodHandle" ∧ yJ11_init_2.cls ≠ "java/lang/invoke/VarHandle" ∧ (parseMethodDescriptor yJ11_init_2.desc).map (fun d => d.parameters.length) = some 0 := by decide +kernel
noncomputable def fn_J11_init_2 (K : zm_K) (a0 : zm_R) : zm_M Unit :=
  zm_bnd (zm_bnd (zm_nn a0) fun _ => fn_J10_init_2 K a0) fun _ =>
  zm_ret ()
theorem ct_J11_init_2 {l : Launch} {Ω : zm_W} {K : zm_K} (H : zm_H Ω K) (a0 : zm_R) : zm_Ct l Ω yJ11_init_2 (ws_ yJ11_init_2 cJ11_init_2 1 (Option.none : Option Jvm.ClassFile.FieldType)) 6 168 [va_rf a0] zm_tvV (fn_J11_init_2 K a0) := by
  refine zm_ct H.1 (by decide +kernel) (zl_le (zl_R zl_nil) (Nat.le_of_ble_eq_true rfl)) ?_
  intro p e R s m args below meth c n0 k0 C hX ls hl
  have hx := C.1
  have hb := C.2.1
  simp only [zg_R, zg_nil] at hl
  have hl : lv_has ls 1 [(0, va_rf a0)] := hl
  refine rk_rf ?_
  unfold fn_J11_init_2
  refine rk_of (fun _ _ _ _ _ k => lr_aload_n hx hb dJ11_init_2_0 rfl (lv_at hl 0 rfl) k) ?_
  refine rk_callV hX (cl_Ir (rest := []) C (ct_J10_init_2 H a0) (lw_meth q803) q114 q801 q802 rfl hd_J10_init_2 ⟨(Nat.le_of_ble_eq_true rfl), (Nat.le_of_ble_eq_true rfl)⟩ rfl hl.1 rfl (zw_le zw_nil (Nat.le_of_ble_eq_true rfl)) dJ11_init_2_1) (fun _ => ?_)
  exact rk_top (rf_vret C dJ11_init_2_4)
theorem hd_J12_init_2 : yJ12_init_2.cls ≠ "java/lang/invoke/MethodHandle" ∧ yJ12_init_2.cls ≠ "java/lang/invoke/VarHandle" ∧ (parseMethodDescriptor yJ12_init_2.desc).map (fun d => d.parameters.length) = some 0 := by decide +kernel
noncomputable def fn_J12_init_2 (K : zm_K) (a0 : zm_R) : zm_M Unit :=
  zm_bnd (zm_bnd (zm_nn a0) fun _ => fn_J11_init_2 K a0) fun _ =>
  zm_ret ()
theorem ct_J12_init_2 {l : Launch} {Ω : zm_W} {K : zm_K} (H : zm_H Ω K) (a0 : zm_R) : zm_Ct l Ω yJ12_init_2 (ws_ yJ12_init_2 cJ12_init_2 1 (Option.none : Option Jvm.ClassFile.FieldType)) 7 188 [va_rf a0] zm_tvV (fn_J12_init_2 K a0) := by
  refine zm_ct H.1 (by decide +kernel) (zl_le (zl_R zl_nil) (Nat.le_of_ble_eq_true rfl)) ?_
  intro p e R s m args below meth c n0 k0 C hX ls hl
  have hx := C.1
  have hb := C.2.1
  simp only [zg_R, zg_nil] at hl
  have hl : lv_has ls 1 [(0, va_rf a0)] := hl
  refine rk_rf ?_
  unfold fn_J12_init_2
  refine rk_of (fun _ _ _ _ _ k => lr_aload_n hx hb dJ12_init_2_0 rfl (lv_at hl 0 rfl) k) ?_
  refine rk_callV hX (cl_Ir (rest := []) C (ct_J11_init_2 H a0) (lw_meth q800) q115 q1142 q799 rfl hd_J11_init_2 ⟨(Nat.le_of_ble_eq_true rfl), (Nat.le_of_ble_eq_true rfl)⟩ rfl hl.1 rfl (zw_le zw_nil (Nat.le_of_ble_eq_true rfl)) dJ12_init_2_1) (fun _ => ?_)
  exact rk_top (rf_vret C dJ12_init_2_4)
theorem hd_X1_require : yX1_require.cls ≠ "java/lang/invoke/MethodHandle" ∧ yX1_require.cls ≠ "java/lang/invoke/VarHandle" ∧ (parseMethodDescriptor yX1_require.desc).map (fun d => d.parameters.length) = some 1 := by decide +kernel
noncomputable def fn_X1_require (K : zm_K) (a0 : Int32) : zm_M Unit :=
  if a0 = 0 then
    zm_bnd (zm_new 5 [.null, .null, .null, .null, .null, .int 0]) fun v4 =>
    zm_bnd (fn_J12_init_2 K (some v4)) fun _ =>
    zm_ath (some v4)
  else
    zm_ret ()
theorem ct_X1_require {l : Launch} {Ω : zm_W} {K : zm_K} (H : zm_H Ω K) (a0 : Int32) : zm_Ct l Ω yX1_require (ws_ yX1_require cX1_require 1 (Option.none : Option Jvm.ClassFile.FieldType)) 8 208 [.int a0] zm_tvV (fn_X1_require K a0) := by
  refine zm_ct H.1 (by decide +kernel) (zl_le (zl_I zl_nil) (Nat.le_of_ble_eq_true rfl)) ?_
  intro p e R s m args below meth c n0 k0 C hX ls hl
  have hx := C.1
  have hb := C.2.1
  simp only [zg_I, zg_nil] at hl
  have hl : lv_has ls 1 [(0, .int a0)] := hl
  refine rk_rf ?_
  unfold fn_X1_require
  refine rk_ite (fun _ _ _ _ _ k1 k2 => lv_iload_n hx hb dX1_require_0 rfl (lv_at hl 0 rfl) (lv_if_ne (tgt := 12) hx hb dX1_require_1 (by decide) k2 k1)) (fun c_1 => ?_) (fun c_1 => ?_)
  · refine rk_new C (hc_J12 H) in_J12 tyJ12_ok q1138 q596 q116 (fs := [.null, .null, .null, .null, .null, .int 0]) rfl (fun j hj => zdf_J12 j hj) dX1_require_4 (fun v4 => ?_)
    refine rk_of (fun _ _ _ _ _ k => lv_dup hx hb dX1_require_7 (va_rf_cat _) k) ?_
    refine rk_callV hX (cl_I (rest := [va_rf (some v4)]) C (ct_J12_init_2 H (some v4)) (lw_meth q1141) q116 q1139 q1140 rfl hd_J12_init_2 ⟨(Nat.le_of_ble_eq_true rfl), (Nat.le_of_ble_eq_true rfl)⟩ rfl hl.1 rfl (zw_le (zw_R zw_nil) (Nat.le_of_ble_eq_true rfl)) dX1_require_8) (fun _ => ?_)
    exact rk_ath H C hX dX1_require_11
  · exact rk_top (rf_vret C dX1_require_12)
theorem hd_J17_copyOf_3 : yJ17_copyOf_3.cls ≠ "java/lang/invoke/MethodHandle" ∧ yJ17_copyOf_3.cls ≠ "java/lang/invoke/VarHandle" ∧ (parseMethodDescriptor yJ17_copyOf_3.desc).map (fun d => d.parameters.length) = some 3 := by decide +kernel
noncomputable def fn_J17_copyOf_3 (K : zm_K) (a0 : zm_R) (a1 : Int32) (a2 : zm_R) : zm_M zm_R :=
  if a2 = (K.2 38) then
    zm_bnd (zm_newa (.object "java/lang/Object") (.inr (.inr (.inr (.inr fun _ => none)))) a1) fun v7 =>
    zm_bnd (zm_alen a0) fun v30 =>
    zm_bnd (zm_ret (if (a1 < v30 : Prop) then (a1 : Int32) else v30)) fun v32 =>
    zm_bnd (zm_cpR K zm_oc a0 0 (some v7) 0 v32) fun _ =>
    zm_ret (some v7)
  else
    zm_fl
theorem ct_J17_copyOf_3 {l : Launch} {Ω : zm_W} {K : zm_K} (H : zm_H Ω K) (a0 : zm_R) (a1 : Int32) (a2 : zm_R) : zm_Ct l Ω yJ17_copyOf_3 (ws_ yJ17_copyOf_3 cJ17_copyOf_3 4 (Option.some (Jvm.ClassFile.FieldType.array (Jvm.ClassFile.FieldType.object "java/lang/Object")))) 4 128 [va_rf a0, .int a1, va_rf a2] zm_tvR (fn_J17_copyOf_3 K a0 a1 a2) := by
  refine zm_ct H.1 (by decide +kernel) (zl_le (zl_R (zl_I (zl_R zl_nil))) (Nat.le_of_ble_eq_true rfl)) ?_
  intro p e R s m args below meth c n0 k0 C hX ls hl
  have hx := C.1
  have hb := C.2.1
  simp only [zg_I, zg_R, zg_nil] at hl
  have hl : lv_has ls 4 [(0, va_rf a0), (1, .int a1), (2, va_rf a2)] := hl
  refine rk_rf ?_
  unfold fn_J17_copyOf_3
  refine rk_ite (fun _ _ _ _ _ k1 k2 => lr_aload_n hx hb dJ17_copyOf_3_0 rfl (lv_at hl 2 rfl) (zs_ldcM C (zh_mi H) q1227 dJ17_copyOf_3_1 (lv_acmp_ne (tgt := 13) hx hb dJ17_copyOf_3_3 (by decide) k2 k1))) (fun c_3 => ?_) (fun c_3 => ?_)
  · refine rk_of (fun _ _ _ _ _ k => lv_iload_n hx hb dJ17_copyOf_3_6 rfl (lv_at hl 1 rfl) k) ?_
    refine rk_anew C q1229 (zh_AO H C) dJ17_copyOf_3_7 (fun v7 => ?_)
    refine rk_ofs (fun _ _ _ _ _ k => lv_goto (tgt := 24) hx hb dJ17_copyOf_3_10 (by decide) (lr_astore_n hx hb dJ17_copyOf_3_24 rfl hl (Nat.le_of_ble_eq_true rfl) [0, 1] rfl ⟨trivial, ⟨trivial, trivial⟩⟩ k)) (fun ls hl => ?_)
    refine rk_of (fun _ _ _ _ _ k => lr_aload_n hx hb dJ17_copyOf_3_25 rfl (lv_at hl 1 rfl) (lv_iconst (v := 0) hx hb dJ17_copyOf_3_26 rfl (lr_aload_n hx hb dJ17_copyOf_3_27 rfl (lv_at hl 0 rfl) (lv_iconst (v := 0) hx hb dJ17_copyOf_3_28 rfl (lr_aload_n hx hb dJ17_copyOf_3_29 rfl (lv_at hl 1 rfl) k))))) ?_
    refine rk_alen C dJ17_copyOf_3_30 (fun v30 => ?_)
    refine rk_of (fun _ _ _ _ _ k => lv_iload_n hx hb dJ17_copyOf_3_31 rfl (lv_at hl 2 rfl) k) ?_
    refine rk_mmin C hl.1 q453 q454 q122 q455 (Nat.le_of_ble_eq_true rfl) (zw_ad (zw_I (zw_R (zw_I (zw_R zw_nil)))) (Nat.le_of_ble_eq_true rfl)) dJ17_copyOf_3_32 (fun v32 => ?_)
    refine rk_cpR C H.2.2.1 hl.1 (zh_oc H C) q456 q458 q457 q124 (Nat.le_of_ble_eq_true rfl) (zw_ad zw_nil (Nat.le_of_ble_eq_true rfl)) dJ17_copyOf_3_35 ?_
    refine rk_of (fun _ _ _ _ _ k => lr_aload_n hx hb dJ17_copyOf_3_38 rfl (lv_at hl 0 rfl) k) ?_
    exact rk_top (rf_aret C (Or.inr ⟨_, rfl⟩) dJ17_copyOf_3_39)
  · refine rk_of (fun _ _ _ _ _ k => lr_aload_n hx hb dJ17_copyOf_3_13 rfl (lv_at hl 2 rfl) k) ?_
    exact rk_fl
theorem hd_J17_copyOf_2 : yJ17_copyOf_2.cls ≠ "java/lang/invoke/MethodHandle" ∧ yJ17_copyOf_2.cls ≠ "java/lang/invoke/VarHandle" ∧ (parseMethodDescriptor yJ17_copyOf_2.desc).map (fun d => d.parameters.length) = some 2 := by decide +kernel
noncomputable def fn_J17_copyOf_2 (K : zm_K) (a0 : zm_R) (a1 : Int32) : zm_M zm_R :=
  zm_bnd (zm_isA a0 (.object "java/lang/Object")) fun _ =>
  zm_bnd (fn_J17_copyOf_3 K a0 a1 (K.2 38)) fun v6 =>
  zm_ret v6
theorem ct_J17_copyOf_2 {l : Launch} {Ω : zm_W} {K : zm_K} (H : zm_H Ω K) (a0 : zm_R) (a1 : Int32) : zm_Ct l Ω yJ17_copyOf_2 (ws_ yJ17_copyOf_2 cJ17_copyOf_2 2 (Option.some (Jvm.ClassFile.FieldType.array (Jvm.ClassFile.FieldType.object "java/lang/Object")))) 5 151 [va_rf a0, .int a1] zm_tvR (fn_J17_copyOf_2 K a0 a1) := by
  refine zm_ct H.1 (by decide +kernel) (zl_le (zl_R (zl_I zl_nil)) (Nat.le_of_ble_eq_true rfl)) ?_
  intro p e R s m args below meth c n0 k0 C hX ls hl
  have hx := C.1
  have hb := C.2.1
  simp only [zg_I, zg_R, zg_nil] at hl
  have hl : lv_has ls 2 [(0, va_rf a0), (1, .int a1)] := hl
  refine rk_rf ?_
  unfold fn_J17_copyOf_2
  refine rk_of (fun _ _ _ _ _ k => lr_aload_n hx hb dJ17_copyOf_2_0 rfl (lv_at hl 0 rfl) (lv_iload_n hx hb dJ17_copyOf_2_1 rfl (lv_at hl 1 rfl) (lr_aload_n hx hb dJ17_copyOf_2_2 rfl (lv_at hl 0 rfl) k))) ?_
  refine rk_getC C hl.1 q1223 (zh_Dc H C) (C.2.2.2.1 _ q3128) q899 q932 (zh_mi H) (Nat.le_of_ble_eq_true rfl) (zw_ad (zw_I (zw_R zw_nil)) (Nat.le_of_ble_eq_true rfl)) dJ17_copyOf_2_3 ?_
  refine rk_callR hX (cl_S (rest := []) C (ct_J17_copyOf_3 H a0 a1 (K.2 38)) (lw_S q1224 q1225 q123 q1226) hd_J17_copyOf_3 ⟨(Nat.le_of_ble_eq_true rfl), (Nat.le_of_ble_eq_true rfl)⟩ rfl hl.1 rfl (zw_le zw_nil (Nat.le_of_ble_eq_true rfl)) dJ17_copyOf_2_6) (fun v6 => ?_)
  exact rk_top (rf_aret C (Or.inr ⟨_, rfl⟩) dJ17_copyOf_2_9)
theorem hd_J2_toArray : yJ2_toArray.cls ≠ "java/lang/invoke/MethodHandle" ∧ yJ2_toArray.cls ≠ "java/lang/invoke/VarHandle" ∧ (parseMethodDescriptor yJ2_toArray.desc).map (fun d => d.parameters.length) = some 0 := by decide +kernel
noncomputable def fn_J2_toArray (K : zm_K) (a0 : zm_R) : zm_M zm_R :=
  zm_bnd (zm_getR a0 0 1) fun v1 =>
  zm_bnd (zm_getI a0 0 2) fun v5 =>
  zm_bnd (fn_J17_copyOf_2 K v1 v5) fun v8 =>
  zm_ret v8
theorem ct_J2_toArray {l : Launch} {Ω : zm_W} {K : zm_K} (H : zm_H Ω K) (a0 : zm_R) : zm_Ct l Ω yJ2_toArray (ws_ yJ2_toArray cJ2_toArray 1 (Option.some (Jvm.ClassFile.FieldType.array (Jvm.ClassFile.FieldType.object "java/lang/Object")))) 6 172 [va_rf a0] zm_tvR (fn_J2_toArray K a0) := by
  refine zm_ct H.1 (by decide +kernel) (zl_le (zl_R zl_nil) (Nat.le_of_ble_eq_true rfl)) ?_
  intro p e R s m args below meth c n0 k0 C hX ls hl
  have hx := C.1
  have hb := C.2.1
  simp only [zg_R, zg_nil] at hl
  have hl : lv_has ls 1 [(0, va_rf a0)] := hl
  refine rk_rf ?_
  unfold fn_J2_toArray
  refine rk_of (fun _ _ _ _ _ k => lr_aload_n hx hb dJ2_toArray_0 rfl (lv_at hl 0 rfl) k) ?_
  refine rk_get zm_rdR_eq C (hc_J2 H) (k := 1) (Nat.le_of_ble_eq_true rfl) in_J2 q178 (fun _ h => h) dJ2_toArray_1 (fun v1 => ?_)
  refine rk_of (fun _ _ _ _ _ k => lr_aload_n hx hb dJ2_toArray_4 rfl (lv_at hl 0 rfl) k) ?_
  refine rk_get zm_rdI_eq C (hc_J2 H) (k := 2) (Nat.le_of_ble_eq_true rfl) in_J2 q181 (fun _ h => h) dJ2_toArray_5 (fun v5 => ?_)
  refine rk_callR hX (cl_S (rest := []) C (ct_J17_copyOf_2 H v1 v5) (lw_S q1220 q1221 q123 q1222) hd_J17_copyOf_2 ⟨(Nat.le_of_ble_eq_true rfl), (Nat.le_of_ble_eq_true rfl)⟩ rfl hl.1 rfl (zw_le zw_nil (Nat.le_of_ble_eq_true rfl)) dJ2_toArray_8) (fun v8 => ?_)
  exact rk_top (rf_aret C (Or.inr ⟨_, rfl⟩) dJ2_toArray_11)
theorem hd_J4_toArray : yJ4_toArray.cls ≠ "java/lang/invoke/MethodHandle" ∧ yJ4_toArray.cls ≠ "java/lang/invoke/VarHandle" ∧ (parseMethodDescriptor yJ4_toArray.desc).map (fun d => d.parameters.length) = some 0 := by decide +kernel
noncomputable def fn_J4_toArray_15 (K : zm_K) (p1 : zm_R) : Nat → Int32 → zm_R → zm_M (Unit)
  | 0, _, _ => zm_fl
  | n + 1, x2, x3 =>
    if x3 = none then
      zm_ret ()
    else
      zm_bnd (zm_getR x3 7 0) fun v25 =>
      zm_bnd (zm_astO K zm_oc p1 x2 v25) fun _ =>
      zm_bnd (zm_getR x3 7 1) fun v30 =>
      fn_J4_toArray_15 K p1 n (x2 + 1) v30
noncomputable def fn_J4_toArray (K : zm_K) (a0 : zm_R) : zm_M zm_R :=
  zm_bnd (zm_getI a0 1 1) fun v1 =>
  zm_bnd (zm_newa (.object "java/lang/Object") (.inr (.inr (.inr (.inr fun _ => none)))) v1) fun v4 =>
  zm_bnd (zm_getR a0 1 2) fun v11 =>
  zm_bnd (α := Unit) (fn_J4_toArray_15 K (some v4) zm_N 0 v11) fun (_ : Unit) =>
  zm_ret (some v4)
theorem rf_J4_toArray_15 (H : zm_H Ω K) (C : zm_C p l R s m args meth c Ω lw_all cJ4_toArray yJ4_toArray.cls yJ4_toArray.name 4 1 64 (Option.some (Jvm.ClassFile.FieldType.array (Jvm.ClassFile.FieldType.object "java/lang/Object")))) (hX : zm_XO p l e R s m args below meth c Ω n0 k0 (zm_QFs below args s Ω n0 k0 zm_tvR)) (p1 : zm_R) : ∀ (n : Nat) (x2 : Int32) (x3 : zm_R) (J : (Unit) → zm_M zm_R) (ls : Array Slot), lv_has ls 4 [(1, va_rf p1), (2, .int x2), (3, va_rf x3)] → (∀ (b : Unit) (ls : Array Slot), lv_has ls 4 [(1, va_rf p1)] → zm_RK p l e R s m args below meth c Ω n0 k0 (zm_QFs below args s Ω n0 k0 zm_tvR) (zm_ret b) J (F0 m 37 ls [])) → zm_RK p l e R s m args below meth c Ω n0 k0 (zm_QFs below args s Ω n0 k0 zm_tvR) (fn_J4_toArray_15 K p1 n x2 x3) J (F0 m 15 ls []) := by
  have hx := C.1
  have hb := C.2.1
  intro n
  induction n with
  | zero => intro x2 x3 J ls hl hJ; exact rk_fl
  | succ n ih =>
    intro x2 x3 J ls hl hJ
    unfold fn_J4_toArray_15
    refine rk_ite (fun _ _ _ _ _ k1 k2 => lr_aload_n hx hb dJ4_toArray_15 rfl (lv_at hl 2 rfl) (lr_ifnull (tgt := 37) hx hb dJ4_toArray_16 (by decide) k1 k2)) (fun c_16 => ?_) (fun c_16 => ?_)
    · exact hJ () ls (lv_sub hl [0] rfl)
    · refine rk_ofs (fun _ _ _ _ _ k => lr_aload_n hx hb dJ4_toArray_19 rfl (lv_at hl 0 rfl) (lv_iload_n hx hb dJ4_toArray_20 rfl (lv_at hl 1 rfl) (lr_iinc (v := x2 + 1) hx hb dJ4_toArray_21 hl (k := 1) rfl rfl (Nat.le_of_ble_eq_true rfl) [0, 2] rfl ⟨(by first | exact va_rf_cat _ | rfl), ⟨trivial, trivial⟩⟩ k))) (fun ls hl => ?_)
      refine rk_of (fun _ _ _ _ _ k => lr_aload_n hx hb dJ4_toArray_24 rfl (lv_at hl 2 rfl) k) ?_
      refine rk_get zm_rdR_eq C (hc_J18 H) (k := 0) (Nat.le_of_ble_eq_true rfl) in_J18 q1249 (fun _ h => h) dJ4_toArray_25 (fun v25 => ?_)
      refine rk_aast C H.2.2.1 (zh_oc H C) dJ4_toArray_28 ?_
      refine rk_of (fun _ _ _ _ _ k => lr_aload_n hx hb dJ4_toArray_29 rfl (lv_at hl 2 rfl) k) ?_
      refine rk_get zm_rdR_eq C (hc_J18 H) (k := 1) (Nat.le_of_ble_eq_true rfl) in_J18 q1252 (fun _ h => h) dJ4_toArray_30 (fun v30 => ?_)
      refine rk_ofs (fun _ _ _ _ _ k => lr_astore_n hx hb dJ4_toArray_33 rfl hl (Nat.le_of_ble_eq_true rfl) [0, 1] rfl ⟨rfl, ⟨trivial, trivial⟩⟩ k) (fun ls hl => ?_)
      refine rk_of (fun _ _ _ _ _ k => lv_goto (tgt := 15) hx hb dJ4_toArray_34 (by decide) k) ?_
      exact ih (x2 + 1) v30 J ls (lv_sub hl [2, 1, 0] rfl) hJ
theorem ct_J4_toArray {l : Launch} {Ω : zm_W} {K : zm_K} (H : zm_H Ω K) (a0 : zm_R) : zm_Ct l Ω yJ4_toArray (ws_ yJ4_toArray cJ4_toArray 4 (Option.some (Jvm.ClassFile.FieldType.array (Jvm.ClassFile.FieldType.object "java/lang/Object")))) 1 64 [va_rf a0] zm_tvR (fn_J4_toArray K a0) := by
  refine zm_ct H.1 (by decide +kernel) (zl_le (zl_R zl_nil) (Nat.le_of_ble_eq_true rfl)) ?_
  intro p e R s m args below meth c n0 k0 C hX ls hl
  have hx := C.1
  have hb := C.2.1
  simp only [zg_R, zg_nil] at hl
  have hl : lv_has ls 4 [(0, va_rf a0)] := hl
  refine rk_rf ?_
  unfold fn_J4_toArray
  refine rk_of (fun _ _ _ _ _ k => lr_aload_n hx hb dJ4_toArray_0 rfl (lv_at hl 0 rfl) k) ?_
  refine rk_get zm_rdI_eq C (hc_J4 H) (k := 1) (Nat.le_of_ble_eq_true rfl) in_J4 q225 (fun _ h => h) dJ4_toArray_1 (fun v1 => ?_)
  refine rk_anew C q1297 (zh_AO H C) dJ4_toArray_4 (fun v4 => ?_)
  refine rk_ofs (fun _ _ _ _ _ k => lr_astore_n hx hb dJ4_toArray_7 rfl hl (Nat.le_of_ble_eq_true rfl) [0] rfl ⟨(by first | exact va_rf_cat _ | rfl), trivial⟩ k) (fun ls hl => ?_)
  refine rk_ofs (fun _ _ _ _ _ k => lv_iconst (v := 0) hx hb dJ4_toArray_8 rfl (lr_istore_n hx hb dJ4_toArray_9 rfl hl (Nat.le_of_ble_eq_true rfl) [0, 1] rfl ⟨(by first | exact va_rf_cat _ | rfl), ⟨trivial, trivial⟩⟩ k)) (fun ls hl => ?_)
  refine rk_of (fun _ _ _ _ _ k => lr_aload_n hx hb dJ4_toArray_10 rfl (lv_at hl 2 rfl) k) ?_
  refine rk_get zm_rdR_eq C (hc_J4 H) (k := 2) (Nat.le_of_ble_eq_true rfl) in_J4 q227 (fun _ h => h) dJ4_toArray_11 (fun v11 => ?_)
  refine rk_ofs (fun _ _ _ _ _ k => lr_astore_n hx hb dJ4_toArray_14 rfl hl (Nat.le_of_ble_eq_true rfl) [0, 1] rfl ⟨rfl, ⟨trivial, trivial⟩⟩ k) (fun ls hl => ?_)
  refine rk_join (β := Unit) (fun (b37 : Unit) ls => lv_has ls 4 [(1, va_rf (some v4))]) (fun (b37 : Unit) ls => F0 m 37 ls []) (fun b37 ls hl => ?_) (fun hJ37 => ?_)
  · refine rk_of (fun _ _ _ _ _ k => lr_aload_n hx hb dJ4_toArray_37 rfl (lv_at hl 0 rfl) k) ?_
    exact rk_top (rf_aret C (Or.inr ⟨_, rfl⟩) dJ4_toArray_38)
  · exact rf_J4_toArray_15 H C hX (some v4) zm_N 0 v11 _ ls (lv_sub hl [2, 1, 0] rfl) hJ37
theorem hd_J15_newLength : yJ15_newLength.cls ≠ "java/lang/invoke/MethodHandle" ∧ yJ15_newLength.cls ≠ "java/lang/invoke/VarHandle" ∧ (parseMethodDescriptor yJ15_newLength.desc).map (fun d => d.parameters.length) = some 3 := by decide +kernel
noncomputable def fn_J15_newLength (K : zm_K) (a0 : Int32) (a1 : Int32) (a2 : Int32) : zm_M Int32 :=
  zm_bnd (zm_ret (if (a1 < a2 : Prop) then (a2 : Int32) else a1)) fun v3 =>
  zm_bnx (β := Unit) (
      if (a0 + v3) ≤ (0 : Int32) then
        zm_ret (Sum.inl ())
      else
        if 2147483639 < (a0 + v3) then
          zm_ret (Sum.inl ())
        else
          zm_ret (Sum.inr (a0 + v3))
    ) fun (_ : Unit) =>
  zm_fl
theorem ct_J15_newLength {l : Launch} {Ω : zm_W} {K : zm_K} (H : zm_H Ω K) (a0 : Int32) (a1 : Int32) (a2 : Int32) : zm_Ct l Ω yJ15_newLength (ws_ yJ15_newLength cJ15_newLength 4 (Option.some Jvm.ClassFile.FieldType.int)) 4 128 [.int a0, .int a1, .int a2] zm_tvI (fn_J15_newLength K a0 a1 a2) := by
  refine zm_ct H.1 (by decide +kernel) (zl_le (zl_I (zl_I (zl_I zl_nil))) (Nat.le_of_ble_eq_true rfl)) ?_
  intro p e R s m args below meth c n0 k0 C hX ls hl
  have hx := C.1
  have hb := C.2.1
  simp only [zg_I, zg_nil] at hl
  have hl : lv_has ls 4 [(0, .int a0), (1, .int a1), (2, .int a2)] := hl
  refine rk_rf ?_
  unfold fn_J15_newLength
  refine rk_of (fun _ _ _ _ _ k => lv_iload_n hx hb dJ15_newLength_0 rfl (lv_at hl 0 rfl) (lv_iload_n hx hb dJ15_newLength_1 rfl (lv_at hl 1 rfl) (lv_iload_n hx hb dJ15_newLength_2 rfl (lv_at hl 2 rfl) k))) ?_
  refine rk_mmax C hl.1 q435 q436 q122 q437 (Nat.le_of_ble_eq_true rfl) (zw_ad (zw_I zw_nil) (Nat.le_of_ble_eq_true rfl)) dJ15_newLength_3 (fun v3 => ?_)
  refine rk_ofs (fun _ _ _ _ _ k => lv_iadd hx hb dJ15_newLength_6 (lr_istore_n hx hb dJ15_newLength_7 rfl hl (Nat.le_of_ble_eq_true rfl) [0, 1] rfl ⟨trivial, ⟨trivial, trivial⟩⟩ k)) (fun ls hl => ?_)
  refine rk_of (fun _ _ _ _ _ k => lv_iconst (v := 0) hx hb dJ15_newLength_8 rfl (lv_iload_n hx hb dJ15_newLength_9 rfl (lv_at hl 0 rfl) k)) ?_
  refine rk_joinx (β := Unit) (fun (b21 : Unit) ls => lv_has ls 4 [(0, .int a0), (1, .int a1)]) (fun (b21 : Unit) ls => F0 m 21 ls []) (fun b21 ls hl => ?_) (fun hJ21 => ?_)
  · refine rk_of (fun _ _ _ _ _ k => lv_iload_n hx hb dJ15_newLength_21 rfl (lv_at hl 0 rfl) (lv_iload_n hx hb dJ15_newLength_22 rfl (lv_at hl 1 rfl) k)) ?_
    exact rk_fl
  · refine rk_ite (fun _ _ _ _ _ k1 k2 => lv_icmp_ge (tgt := 21) hx hb dJ15_newLength_10 (by decide) k1 k2) (fun c_10 => ?_) (fun c_10 => ?_)
    · exact hJ21 () ls (lv_sub hl [1, 2] rfl)
    · refine rk_ite (fun _ _ _ _ _ k1 k2 => lv_iload_n hx hb dJ15_newLength_13 rfl (lv_at hl 0 rfl) (lv_ldc (v := 2147483639) hx hb C.2.2.1 (C.2.2.2.1 _ q438) dJ15_newLength_14 (lv_icmp_gt (tgt := 21) hx hb dJ15_newLength_16 (by decide) k1 k2))) (fun c_16 => ?_) (fun c_16 => ?_)
      · exact hJ21 () ls (lv_sub hl [1, 2] rfl)
      · refine rk_of (fun _ _ _ _ _ k => lv_iload_n hx hb dJ15_newLength_19 rfl (lv_at hl 0 rfl) k) ?_
        refine rk_inr ?_
        exact rk_top (rf_iret C rfl dJ15_newLength_20)
theorem hd_J2_grow_2 : yJ2_grow_2.cls ≠ "java/lang/invoke/MethodHandle" ∧ yJ2_grow_2.cls ≠ "java/lang/invoke/VarHandle" ∧ (parseMethodDescriptor yJ2_grow_2.desc).map (fun d => d.parameters.length) = some 1 := by decide +kernel
noncomputable def fn_J2_grow_2 (K : zm_K) (a0 : zm_R) (a1 : Int32) : zm_M zm_R :=
  zm_bnd (zm_getR a0 0 1) fun v1 =>
  zm_bnd (zm_alen v1) fun v4 =>
  zm_bnx (β := Unit) (
      if 0 < v4 then
        zm_ret (Sum.inl ())
      else
        zm_bnd (zm_getR a0 0 1) fun v11 =>
        if v11 = (K.2 5) then
          zm_bnd (zm_ret (if (10 < a1 : Prop) then (a1 : Int32) else 10)) fun v49 =>
          zm_bnd (zm_newa (.object "java/lang/Object") (.inr (.inr (.inr (.inr fun _ => none)))) v49) fun v52 =>
          zm_bnd (zm_putF K a0 0 1 (va_rf (some v52))) fun _ =>
          zm_ret (Sum.inr (some v52))
        else
          zm_ret (Sum.inl ())
    ) fun (_ : Unit) =>
  zm_bnd (fn_J15_newLength K v4 (a1 - v4) (v4 >>> (1 &&& 31))) fun v27 =>
  zm_bnd (zm_getR a0 0 1) fun v33 =>
  zm_bnd (fn_J17_copyOf_2 K v33 v27) fun v37 =>
  zm_bnd (zm_putF K a0 0 1 (va_rf v37)) fun _ =>
  zm_ret v37
theorem ct_J2_grow_2 {l : Launch} {Ω : zm_W} {K : zm_K} (H : zm_H Ω K) (a0 : zm_R) (a1 : Int32) : zm_Ct l Ω yJ2_grow_2 (ws_ yJ2_grow_2 cJ2_grow_2 4 (Option.some (Jvm.ClassFile.FieldType.array (Jvm.ClassFile.FieldType.object "java/lang/Object")))) 6 172 [va_rf a0, .int a1] zm_tvR (fn_J2_grow_2 K a0 a1) := by
  refine zm_ct H.1 (by decide +kernel) (zl_le (zl_R (zl_I zl_nil)) (Nat.le_of_ble_eq_true rfl)) ?_
  intro p e R s m args below meth c n0 k0 C hX ls hl
  have hx := C.1
  have hb := C.2.1
  simp only [zg_I, zg_R, zg_nil] at hl
  have hl : lv_has ls 4 [(0, va_rf a0), (1, .int a1)] := hl
  refine rk_rf ?_
  unfold fn_J2_grow_2
  refine rk_of (fun _ _ _ _ _ k => lr_aload_n hx hb dJ2_grow_2_0 rfl (lv_at hl 0 rfl) k) ?_
  refine rk_get zm_rdR_eq C (hc_J2 H) (k := 1) (Nat.le_of_ble_eq_true rfl) in_J2 q178 (fun _ h => h) dJ2_grow_2_1 (fun v1 => ?_)
  refine rk_alen C dJ2_grow_2_4 (fun v4 => ?_)
  refine rk_ofs (fun _ _ _ _ _ k => lr_istore_n hx hb dJ2_grow_2_5 rfl hl (Nat.le_of_ble_eq_true rfl) [0, 1] rfl ⟨trivial, ⟨rfl, trivial⟩⟩ k) (fun ls hl => ?_)
  refine rk_of (fun _ _ _ _ _ k => lv_iload_n hx hb dJ2_grow_2_6 rfl (lv_at hl 0 rfl) k) ?_
  refine rk_joinx (β := Unit) (fun (b20 : Unit) ls => lv_has ls 4 [(0, va_rf a0), (1, .int a1), (2, .int v4)]) (fun (b20 : Unit) ls => F0 m 20 ls []) (fun b20 ls hl => ?_) (fun hJ20 => ?_)
  · refine rk_of (fun _ _ _ _ _ k => lv_iload_n hx hb dJ2_grow_2_20 rfl (lv_at hl 2 rfl) (lv_iload_n hx hb dJ2_grow_2_21 rfl (lv_at hl 1 rfl) (lv_iload_n hx hb dJ2_grow_2_22 rfl (lv_at hl 2 rfl) (lv_isub hx hb dJ2_grow_2_23 (lv_iload_n hx hb dJ2_grow_2_24 rfl (lv_at hl 2 rfl) (lv_iconst (v := 1) hx hb dJ2_grow_2_25 rfl (lv_ishr hx hb dJ2_grow_2_26 k))))))) ?_
    refine rk_callI hX (cl_S (rest := []) C (ct_J15_newLength H v4 (a1 - v4) (v4 >>> (1 &&& 31))) (lw_S q1219 q433 q121 q434) hd_J15_newLength ⟨(Nat.le_of_ble_eq_true rfl), (Nat.le_of_ble_eq_true rfl)⟩ rfl hl.1 rfl (zw_le zw_nil (Nat.le_of_ble_eq_true rfl)) dJ2_grow_2_27) (fun v27 => ?_)
    refine rk_ofs (fun _ _ _ _ _ k => lr_istore_n hx hb dJ2_grow_2_30 rfl hl (Nat.le_of_ble_eq_true rfl) [0] rfl ⟨trivial, trivial⟩ k) (fun ls hl => ?_)
    refine rk_of (fun _ _ _ _ _ k => lr_aload_n hx hb dJ2_grow_2_31 rfl (lv_at hl 1 rfl) (lr_aload_n hx hb dJ2_grow_2_32 rfl (lv_at hl 1 rfl) k)) ?_
    refine rk_get zm_rdR_eq C (hc_J2 H) (k := 1) (Nat.le_of_ble_eq_true rfl) in_J2 q178 (fun _ h => h) dJ2_grow_2_33 (fun v33 => ?_)
    refine rk_of (fun _ _ _ _ _ k => lv_iload_n hx hb dJ2_grow_2_36 rfl (lv_at hl 0 rfl) k) ?_
    refine rk_callR hX (cl_S (rest := [va_rf a0]) C (ct_J17_copyOf_2 H v33 v27) (lw_S q1220 q1221 q123 q1222) hd_J17_copyOf_2 ⟨(Nat.le_of_ble_eq_true rfl), (Nat.le_of_ble_eq_true rfl)⟩ rfl hl.1 rfl (zw_le (zw_R zw_nil) (Nat.le_of_ble_eq_true rfl)) dJ2_grow_2_37) (fun v37 => ?_)
    refine rk_of (fun _ _ _ _ _ k => lv_dup_x1 hx hb dJ2_grow_2_40 (va_rf_cat _) (va_rf_cat _) k) ?_
    refine rk_put C H.2.2.1 (hc_J2 H) (k := 1) (Nat.le_of_ble_eq_true rfl) in_J2 (ty0 := tyJ2) tyJ2_ok nmJ2 q178 (fun _ h => h) (Or.inl rfl) (zn_R rfl _) (zp_R rfl _) dJ2_grow_2_41 ?_
    exact rk_top (rf_aret C (Or.inr ⟨_, rfl⟩) dJ2_grow_2_44)
  · refine rk_ite (fun _ _ _ _ _ k1 k2 => lv_if_gt (tgt := 20) hx hb dJ2_grow_2_7 (by decide) k1 k2) (fun c_7 => ?_) (fun c_7 => ?_)
    · exact hJ20 () ls (lv_sub hl [1, 2, 0] rfl)
    · refine rk_of (fun _ _ _ _ _ k => lr_aload_n hx hb dJ2_grow_2_10 rfl (lv_at hl 1 rfl) k) ?_
      refine rk_get zm_rdR_eq C (hc_J2 H) (k := 1) (Nat.le_of_ble_eq_true rfl) in_J2 q178 (fun _ h => h) dJ2_grow_2_11 (fun v11 => ?_)
      refine rk_gets C (zh_st5 H) q176 (fun _ h => h) dJ2_grow_2_14 ?_
      refine rk_ite (fun _ _ _ _ _ k1 k2 => lv_acmp_eq (tgt := 45) hx hb dJ2_grow_2_17 (by decide) k1 k2) (fun c_17 => ?_) (fun c_17 => ?_)
      · refine rk_of (fun _ _ _ _ _ k => lr_aload_n hx hb dJ2_grow_2_45 rfl (lv_at hl 1 rfl) (lv_bipush (v := 10) hx hb dJ2_grow_2_46 rfl (lv_iload_n hx hb dJ2_grow_2_48 rfl (lv_at hl 2 rfl) k))) ?_
        refine rk_mmax C hl.1 q1230 q436 q122 q437 (Nat.le_of_ble_eq_true rfl) (zw_ad (zw_R zw_nil) (Nat.le_of_ble_eq_true rfl)) dJ2_grow_2_49 (fun v49 => ?_)
        refine rk_anew C q1231 (zh_AO H C) dJ2_grow_2_52 (fun v52 => ?_)
        refine rk_of (fun _ _ _ _ _ k => lv_dup_x1 hx hb dJ2_grow_2_55 (va_rf_cat _) (va_rf_cat _) k) ?_
        refine rk_put C H.2.2.1 (hc_J2 H) (k := 1) (Nat.le_of_ble_eq_true rfl) in_J2 (ty0 := tyJ2) tyJ2_ok nmJ2 q178 (fun _ h => h) (Or.inl rfl) (zn_R rfl _) (zp_R rfl _) dJ2_grow_2_56 ?_
        refine rk_inr ?_
        exact rk_top (rf_aret C (Or.inr ⟨_, rfl⟩) dJ2_grow_2_59)
      · exact hJ20 () ls (lv_sub hl [1, 2, 0] rfl)
theorem hd_J2_addAll : yJ2_addAll.cls ≠ "java/lang/invoke/MethodHandle" ∧ yJ2_addAll.cls ≠ "java/lang/invoke/VarHandle" ∧ (parseMethodDescriptor yJ2_addAll.desc).map (fun d => d.parameters.length) = some 1 := by decide +kernel
noncomputable def fn_J2_addAll (K : zm_K) (a0 : zm_R) (a1 : zm_R) : zm_M Int32 :=
  zm_bnd (zm_bnd (zm_cls a1) fun ci => if ci = 0 then fn_J2_toArray K a1 else if ci = 1 then fn_J4_toArray K a1 else zm_fl) fun v1 =>
  zm_bnd (zm_getI a0 0 0) fun v9 =>
  zm_bnd (zm_putF K a0 0 0 (.int (v9 + 1))) fun _ =>
  zm_bnd (zm_alen v1) fun v18 =>
  if v18 = 0 then
    zm_ret 0
  else
    zm_bnd (zm_getR a0 0 1) fun v28 =>
    zm_bnd (zm_alen v28) fun v34 =>
    zm_bnd (zm_getI a0 0 2) fun v36 =>
    zm_bnd (α := zm_R) (
        if v18 ≤ (v34 - v36) then
          zm_ret v28
        else
          zm_bnd (zm_bnd (zm_is a0 0) fun _ => fn_J2_grow_2 K a0 (v36 + v18)) fun v51 =>
          zm_ret v51
      ) fun b56 =>
    zm_bnd (zm_cpR K zm_oc v1 0 b56 v36 v18) fun _ =>
    zm_bnd (zm_putF K a0 0 2 (.int (v36 + v18))) fun _ =>
    zm_ret 1
theorem ct_J2_addAll {l : Launch} {Ω : zm_W} {K : zm_K} (H : zm_H Ω K) (a0 : zm_R) (a1 : zm_R) : zm_Ct l Ω yJ2_addAll (ws_ yJ2_addAll cJ2_addAll 6 (Option.some Jvm.ClassFile.FieldType.boolean)) 7 195 [va_rf a0, va_rf a1] zm_tvI (fn_J2_addAll K a0 a1) := by
  refine zm_ct H.1 (by decide +kernel) (zl_le (zl_R (zl_R zl_nil)) (Nat.le_of_ble_eq_true rfl)) ?_
  intro p e R s m args below meth c n0 k0 C hX ls hl
  have hx := C.1
  have hb := C.2.1
  simp only [zg_R, zg_nil] at hl
  have hl : lv_has ls 6 [(0, va_rf a0), (1, va_rf a1)] := hl
  refine rk_rf ?_
  unfold fn_J2_addAll
  refine rk_of (fun _ _ _ _ _ k => lr_aload_n hx hb dJ2_addAll_0 rfl (lv_at hl 1 rfl) k) ?_
  refine rk_callR hX (cl_dsp (fun ci => cl_case (cl_F (n := 0) (rest := []) (av := []) C (hc_J2 H) (ct_J2_toArray H a1) (lw_F q1282 q1286 q1288 q105 q1290) (zh_Fw H C (by decide) q1284 q1283 q1289 q1287 q1285) (by decide +kernel) ⟨(Nat.le_of_ble_eq_true rfl), (Nat.le_of_ble_eq_true rfl)⟩ rfl hl.1 rfl (zw_le zw_nil (Nat.le_of_ble_eq_true rfl)) dJ2_addAll_1) (cl_case (cl_F (n := 0) (rest := []) (av := []) C (hc_J4 H) (ct_J4_toArray H a1) (lw_F q1282 q1292 q1294 q107 q1296) (zh_Fw H C (by decide) q1284 q1283 q1295 q1293 q1291) (by decide +kernel) ⟨(Nat.le_of_ble_eq_true rfl), (Nat.le_of_ble_eq_true rfl)⟩ rfl hl.1 rfl (zw_le zw_nil (Nat.le_of_ble_eq_true rfl)) dJ2_addAll_1) (cl_fl)))) (fun v1 => ?_)
  refine rk_ofs (fun _ _ _ _ _ k => lr_astore_n hx hb dJ2_addAll_6 rfl hl (Nat.le_of_ble_eq_true rfl) [0] rfl ⟨trivial, trivial⟩ k) (fun ls hl => ?_)
  refine rk_of (fun _ _ _ _ _ k => lr_aload_n hx hb dJ2_addAll_7 rfl (lv_at hl 1 rfl) (lv_dup hx hb dJ2_addAll_8 (va_rf_cat _) k)) ?_
  refine rk_get zm_rdI_eq C (hc_J2 H) (k := 0) (Nat.le_of_ble_eq_true rfl) in_J2 q189 (u_same (C.2.2.2.1 _ q186)) dJ2_addAll_9 (fun v9 => ?_)
  refine rk_of (fun _ _ _ _ _ k => lv_iconst (v := 1) hx hb dJ2_addAll_12 rfl (lv_iadd hx hb dJ2_addAll_13 k)) ?_
  refine rk_put C H.2.2.1 (hc_J2 H) (k := 0) (Nat.le_of_ble_eq_true rfl) in_J2 (ty0 := tyJ2) tyJ2_ok nmJ2 q189 (u_same (C.2.2.2.1 _ q186)) (Or.inl rfl) rfl rfl dJ2_addAll_14 ?_
  refine rk_of (fun _ _ _ _ _ k => lr_aload_n hx hb dJ2_addAll_17 rfl (lv_at hl 0 rfl) k) ?_
  refine rk_alen C dJ2_addAll_18 (fun v18 => ?_)
  refine rk_ofs (fun _ _ _ _ _ k => lr_istore_n hx hb dJ2_addAll_19 rfl hl (Nat.le_of_ble_eq_true rfl) [0, 1] rfl ⟨(by first | exact va_rf_cat _ | rfl), ⟨trivial, trivial⟩⟩ k) (fun ls hl => ?_)
  refine rk_ite (fun _ _ _ _ _ k1 k2 => lv_iload_n hx hb dJ2_addAll_20 rfl (lv_at hl 0 rfl) (lv_if_ne (tgt := 26) hx hb dJ2_addAll_21 (by decide) k2 k1)) (fun c_21 => ?_) (fun c_21 => ?_)
  · refine rk_of (fun _ _ _ _ _ k => lv_iconst (v := 0) hx hb dJ2_addAll_24 rfl k) ?_
    exact rk_top (rf_iret C rfl dJ2_addAll_25)
  · refine rk_of (fun _ _ _ _ _ k => lv_iload_n hx hb dJ2_addAll_26 rfl (lv_at hl 0 rfl) (lr_aload_n hx hb dJ2_addAll_27 rfl (lv_at hl 2 rfl) k)) ?_
    refine rk_get zm_rdR_eq C (hc_J2 H) (k := 1) (Nat.le_of_ble_eq_true rfl) in_J2 q178 (fun _ h => h) dJ2_addAll_28 (fun v28 => ?_)
    refine rk_ofs (fun _ _ _ _ _ k => lv_dup hx hb dJ2_addAll_31 (va_rf_cat _) (lr_astore hx hb dJ2_addAll_32 hl (Nat.le_of_ble_eq_true rfl) [0, 1, 2] rfl ⟨rfl, ⟨trivial, ⟨trivial, trivial⟩⟩⟩ k)) (fun ls hl => ?_)
    refine rk_alen C dJ2_addAll_34 (fun v34 => ?_)
    refine rk_of (fun _ _ _ _ _ k => lr_aload_n hx hb dJ2_addAll_35 rfl (lv_at hl 3 rfl) k) ?_
    refine rk_get zm_rdI_eq C (hc_J2 H) (k := 2) (Nat.le_of_ble_eq_true rfl) in_J2 q181 (fun _ h => h) dJ2_addAll_36 (fun v36 => ?_)
    refine rk_ofs (fun _ _ _ _ _ k => lv_dup hx hb dJ2_addAll_39 rfl (lr_istore hx hb dJ2_addAll_40 hl (Nat.le_of_ble_eq_true rfl) [0, 1, 2, 3] rfl ⟨(by first | exact va_rf_cat _ | rfl), ⟨trivial, ⟨trivial, ⟨trivial, trivial⟩⟩⟩⟩ k)) (fun ls hl => ?_)
    refine rk_of (fun _ _ _ _ _ k => lv_isub hx hb dJ2_addAll_42 k) ?_
    refine rk_join (β := zm_R) (fun (b56 : zm_R) ls => lv_has ls 6 [(0, va_rf a0), (2, va_rf v1), (3, .int v18), (4, va_rf b56), (5, .int v36)]) (fun (b56 : zm_R) ls => F0 m 56 ls []) (fun b56 ls hl => ?_) (fun hJ56 => ?_)
    · refine rk_of (fun _ _ _ _ _ k => lr_aload_n hx hb dJ2_addAll_56 rfl (lv_at hl 1 rfl) (lv_iconst (v := 0) hx hb dJ2_addAll_57 rfl (lr_aload hx hb dJ2_addAll_58 (lv_at hl 3 rfl) (lv_iload hx hb dJ2_addAll_60 (lv_at hl 4 rfl) (lv_iload_n hx hb dJ2_addAll_62 rfl (lv_at hl 2 rfl) k))))) ?_
      refine rk_cpR C H.2.2.1 hl.1 (zh_oc H C) q1298 q458 q457 q124 (Nat.le_of_ble_eq_true rfl) (zw_ad zw_nil (Nat.le_of_ble_eq_true rfl)) dJ2_addAll_63 ?_
      refine rk_of (fun _ _ _ _ _ k => lr_aload_n hx hb dJ2_addAll_66 rfl (lv_at hl 0 rfl) (lv_iload hx hb dJ2_addAll_67 (lv_at hl 4 rfl) (lv_iload_n hx hb dJ2_addAll_69 rfl (lv_at hl 2 rfl) (lv_iadd hx hb dJ2_addAll_70 k)))) ?_
      refine rk_put C H.2.2.1 (hc_J2 H) (k := 2) (Nat.le_of_ble_eq_true rfl) in_J2 (ty0 := tyJ2) tyJ2_ok nmJ2 q181 (fun _ h => h) (Or.inl rfl) rfl rfl dJ2_addAll_71 ?_
      refine rk_of (fun _ _ _ _ _ k => lv_iconst (v := 1) hx hb dJ2_addAll_74 rfl k) ?_
      exact rk_top (rf_iret C rfl dJ2_addAll_75)
    · refine rk_ite (fun _ _ _ _ _ k1 k2 => lv_icmp_le (tgt := 56) hx hb dJ2_addAll_43 (by decide) k1 k2) (fun c_43 => ?_) (fun c_43 => ?_)
      · exact hJ56 v28 ls (lv_sub hl [4, 3, 2, 1, 0] rfl)
      · refine rk_of (fun _ _ _ _ _ k => lr_aload_n hx hb dJ2_addAll_46 rfl (lv_at hl 4 rfl) (lv_iload hx hb dJ2_addAll_47 (lv_at hl 0 rfl) (lv_iload_n hx hb dJ2_addAll_49 rfl (lv_at hl 2 rfl) (lv_iadd hx hb dJ2_addAll_50 k)))) ?_
        refine rk_callR hX (cl_V (rest := []) (av := [.int (v36 + v18)]) C (hc_J2 H) (ct_J2_grow_2 H a0 (v36 + v18)) (lw_V q1215 q1217 qs11 q105 q1218) ⟨rfl, hd_J2_grow_2⟩ ⟨(Nat.le_of_ble_eq_true rfl), (Nat.le_of_ble_eq_true rfl)⟩ rfl hl.1 rfl (zw_le zw_nil (Nat.le_of_ble_eq_true rfl)) dJ2_addAll_51) (fun v51 => ?_)
        refine rk_ofs (fun _ _ _ _ _ k => lr_astore hx hb dJ2_addAll_54 hl (Nat.le_of_ble_eq_true rfl) [0, 2, 3, 4] rfl ⟨trivial, ⟨rfl, ⟨trivial, ⟨trivial, trivial⟩⟩⟩⟩ k) (fun ls hl => ?_)
        exact hJ56 v51 ls (lv_sub hl [4, 3, 2, 0, 1] rfl)
theorem hd_J4_isPositionIndex : yJ4_isPositionIndex.cls ≠ "java/lang/invoke/MethodHandle" ∧ yJ4_isPositionIndex.cls ≠ "java/lang/invoke/VarHandle" ∧ (parseMethodDescriptor yJ4_isPositionIndex.desc).map (fun d => d.parameters.length) = some 1 := by decide +kernel
noncomputable def fn_J4_isPositionIndex (K : zm_K) (a0 : zm_R) (a1 : Int32) : zm_M Int32 :=
  if a1 < 0 then
    zm_ret 0
  else
    zm_bnd (zm_getI a0 1 1) fun v6 =>
    if v6 < a1 then
      zm_ret 0
    else
      zm_ret 1
theorem ct_J4_isPositionIndex {l : Launch} {Ω : zm_W} {K : zm_K} (H : zm_H Ω K) (a0 : zm_R) (a1 : Int32) : zm_Ct l Ω yJ4_isPositionIndex (ws_ yJ4_isPositionIndex cJ4_isPositionIndex 2 (Option.some Jvm.ClassFile.FieldType.boolean)) 1 64 [va_rf a0, .int a1] zm_tvI (fn_J4_isPositionIndex K a0 a1) := by
  refine zm_ct H.1 (by decide +kernel) (zl_le (zl_R (zl_I zl_nil)) (Nat.le_of_ble_eq_true rfl)) ?_
  intro p e R s m args below meth c n0 k0 C hX ls hl
  have hx := C.1
  have hb := C.2.1
  simp only [zg_I, zg_R, zg_nil] at hl
  have hl : lv_has ls 2 [(0, va_rf a0), (1, .int a1)] := hl
  refine rk_rf ?_
  unfold fn_J4_isPositionIndex
  refine rk_ite (fun _ _ _ _ _ k1 k2 => lv_iload_n hx hb dJ4_isPositionIndex_0 rfl (lv_at hl 1 rfl) (lv_if_lt (tgt := 16) hx hb dJ4_isPositionIndex_1 (by decide) k1 k2)) (fun c_1 => ?_) (fun c_1 => ?_)
  · refine rk_of (fun _ _ _ _ _ k => lv_iconst (v := 0) hx hb dJ4_isPositionIndex_16 rfl k) ?_
    exact rk_top (rf_iret C rfl dJ4_isPositionIndex_17)
  · refine rk_of (fun _ _ _ _ _ k => lv_iload_n hx hb dJ4_isPositionIndex_4 rfl (lv_at hl 1 rfl) (lr_aload_n hx hb dJ4_isPositionIndex_5 rfl (lv_at hl 0 rfl) k)) ?_
    refine rk_get zm_rdI_eq C (hc_J4 H) (k := 1) (Nat.le_of_ble_eq_true rfl) in_J4 q225 (fun _ h => h) dJ4_isPositionIndex_6 (fun v6 => ?_)
    refine rk_ite (fun _ _ _ _ _ k1 k2 => lv_icmp_gt (tgt := 16) hx hb dJ4_isPositionIndex_9 (by decide) k1 k2) (fun c_9 => ?_) (fun c_9 => ?_)
    · refine rk_of (fun _ _ _ _ _ k => lv_iconst (v := 0) hx hb dJ4_isPositionIndex_16 rfl k) ?_
      exact rk_top (rf_iret C rfl dJ4_isPositionIndex_17)
    · refine rk_of (fun _ _ _ _ _ k => lv_iconst (v := 1) hx hb dJ4_isPositionIndex_12 rfl (lv_goto (tgt := 17) hx hb dJ4_isPositionIndex_13 (by decide) k)) ?_
      exact rk_top (rf_iret C rfl dJ4_isPositionIndex_17)
theorem hd_J9_init_2 : yJ9_init_2.cls ≠ "java/lang/invoke/MethodHandle" ∧ yJ9_init_2.cls ≠ "java/lang/invoke/VarHandle" ∧ (parseMethodDescriptor yJ9_init_2.desc).map (fun d => d.parameters.length) = some 1 := by decide +kernel
noncomputable def fn_J9_init_2 (K : zm_K) (a0 : zm_R) (a1 : zm_R) : zm_M Unit :=
  zm_bnd (zm_grd (a0 ≠ none)) fun _ =>
  zm_bnd (zm_tb a0 [(5, 0), (8, 0), (12, 0), (13, 0), (14, 2), (15, 0), (16, 2), (17, 2), (21, 0), (28, 0)] fun ci k => zm_putF K a0 ci k (va_rf a0)) fun _ =>
  zm_bnd (zm_tb a0 [(5, 1), (8, 1), (12, 1), (13, 1), (14, 3), (15, 1), (16, 3), (17, 3), (21, 1), (28, 1)] fun ci k => zm_putF K a0 ci k (va_rf (K.2 4))) fun _ =>
  zm_bnd (zm_tb a0 [(5, 2), (8, 2), (12, 2), (13, 2), (14, 5), (15, 2), (16, 5), (17, 5), (21, 2), (28, 2)] fun ci k => zm_putF K a0 ci k (va_rf (K.2 3))) fun _ =>
  zm_bnd (zm_tb a0 [(5, 1), (8, 1), (12, 1), (13, 1), (14, 3), (15, 1), (17, 3), (21, 1), (28, 1)] fun ci k => zm_filF K a0 ci k) fun _ =>
  zm_bnd (zm_tb a0 [(5, 3), (8, 3), (12, 3), (13, 3), (14, 1), (15, 3), (16, 1), (17, 1), (21, 3), (28, 3)] fun ci k => zm_putF K a0 ci k (va_rf a1)) fun _ =>
  zm_ret ()
theorem ct_J9_init_2 {l : Launch} {Ω : zm_W} {K : zm_K} (H : zm_H Ω K) (a0 : zm_R) (a1 : zm_R) : zm_Ct l Ω yJ9_init_2 (ws_ yJ9_init_2 cJ9_init_2 2 (Option.none : Option Jvm.ClassFile.FieldType)) 4 128 [va_rf a0, va_rf a1] zm_tvV (fn_J9_init_2 K a0 a1) := by
  refine zm_ct H.1 (by decide +kernel) (zl_le (zl_R (zl_R zl_nil)) (Nat.le_of_ble_eq_true rfl)) ?_
  intro p e R s m args below meth c n0 k0 C hX ls hl
  have hx := C.1
  have hb := C.2.1
  simp only [zg_R, zg_nil] at hl
  have hl : lv_has ls 2 [(0, va_rf a0), (1, va_rf a1)] := hl
  refine rk_rf ?_
  unfold fn_J9_init_2
  refine rk_of (fun _ _ _ _ _ k => lr_aload_n hx hb dJ9_init_2_0 rfl (lv_at hl 0 rfl) k) ?_
  refine rk_grd (fun hg_1 => ?_)
  refine rk_of (fun _ _ _ _ _ k => zo_init C hl.1 q383 q156 q157 hg_1 (Nat.le_of_ble_eq_true rfl) (zw_le12 zw_nil (Nat.le_of_ble_eq_true rfl)) dJ9_init_2_1 k) ?_
  refine rk_of (fun _ _ _ _ _ k => lr_aload_n hx hb dJ9_init_2_4 rfl (lv_at hl 0 rfl) (lr_aload_n hx hb dJ9_init_2_5 rfl (lv_at hl 0 rfl) k)) ?_
  refine rk_putT C H.2.2.1 (tb_cons ⟨_, _, _, tyJ12, hc_J12 H, (Nat.le_of_ble_eq_true rfl), in_J12, tyJ12_ok, nmJ12, rfl, rfl⟩ (tb_cons ⟨_, _, _, tyJ19, hc_J19 H, (Nat.le_of_ble_eq_true rfl), in_J19, tyJ19_ok, nmJ19, rfl, rfl⟩ (tb_cons ⟨_, _, _, tyJ26, hc_J26 H, (Nat.le_of_ble_eq_true rfl), in_J26, tyJ26_ok, nmJ26, rfl, rfl⟩ (tb_cons ⟨_, _, _, tyJ28, hc_J28 H, (Nat.le_of_ble_eq_true rfl), in_J28, tyJ28_ok, nmJ28, rfl, rfl⟩ (tb_cons ⟨_, _, _, tyJ29, hc_J29 H, (Nat.le_of_ble_eq_true rfl), in_J29, tyJ29_ok, nmJ29, rfl, rfl⟩ (tb_cons ⟨_, _, _, tyJ30, hc_J30 H, (Nat.le_of_ble_eq_true rfl), in_J30, tyJ30_ok, nmJ30, rfl, rfl⟩ (tb_cons ⟨_, _, _, tyJ31, hc_J31 H, (Nat.le_of_ble_eq_true rfl), in_J31, tyJ31_ok, nmJ31, rfl, rfl⟩ (tb_cons ⟨_, _, _, tyJ32, hc_J32 H, (Nat.le_of_ble_eq_true rfl), in_J32, tyJ32_ok, nmJ32, rfl, rfl⟩ (tb_cons ⟨_, _, _, tyX4, hc_X4 H, (Nat.le_of_ble_eq_true rfl), in_X4, tyX4_ok, nmX4, rfl, rfl⟩ (tb_cons ⟨_, _, _, tyX12, hc_X12 H, (Nat.le_of_ble_eq_true rfl), in_X12, tyX12_ok, nmX12, rfl, rfl⟩ (tb_nil))))))))))) q624 (zn_R rfl _) (zp_R rfl _) dJ9_init_2_6 ?_
  refine rk_of (fun _ _ _ _ _ k => lr_aload_n hx hb dJ9_init_2_9 rfl (lv_at hl 0 rfl) k) ?_
  refine rk_gets C (zh_st4 H) q384 (fun _ h => h) dJ9_init_2_10 ?_
  refine rk_putT C H.2.2.1 (tb_cons ⟨_, _, _, tyJ12, hc_J12 H, (Nat.le_of_ble_eq_true rfl), in_J12, tyJ12_ok, nmJ12, rfl, rfl⟩ (tb_cons ⟨_, _, _, tyJ19, hc_J19 H, (Nat.le_of_ble_eq_true rfl), in_J19, tyJ19_ok, nmJ19, rfl, rfl⟩ (tb_cons ⟨_, _, _, tyJ26, hc_J26 H, (Nat.le_of_ble_eq_true rfl), in_J26, tyJ26_ok, nmJ26, rfl, rfl⟩ (tb_cons ⟨_, _, _, tyJ28, hc_J28 H, (Nat.le_of_ble_eq_true rfl), in_J28, tyJ28_ok, nmJ28, rfl, rfl⟩ (tb_cons ⟨_, _, _, tyJ29, hc_J29 H, (Nat.le_of_ble_eq_true rfl), in_J29, tyJ29_ok, nmJ29, rfl, rfl⟩ (tb_cons ⟨_, _, _, tyJ30, hc_J30 H, (Nat.le_of_ble_eq_true rfl), in_J30, tyJ30_ok, nmJ30, rfl, rfl⟩ (tb_cons ⟨_, _, _, tyJ31, hc_J31 H, (Nat.le_of_ble_eq_true rfl), in_J31, tyJ31_ok, nmJ31, rfl, rfl⟩ (tb_cons ⟨_, _, _, tyJ32, hc_J32 H, (Nat.le_of_ble_eq_true rfl), in_J32, tyJ32_ok, nmJ32, rfl, rfl⟩ (tb_cons ⟨_, _, _, tyX4, hc_X4 H, (Nat.le_of_ble_eq_true rfl), in_X4, tyX4_ok, nmX4, rfl, rfl⟩ (tb_cons ⟨_, _, _, tyX12, hc_X12 H, (Nat.le_of_ble_eq_true rfl), in_X12, tyX12_ok, nmX12, rfl, rfl⟩ (tb_nil))))))))))) q625 (zn_R rfl _) (zp_R rfl _) dJ9_init_2_13 ?_
  refine rk_of (fun _ _ _ _ _ k => lr_aload_n hx hb dJ9_init_2_16 rfl (lv_at hl 0 rfl) k) ?_
  refine rk_gets C (zh_st3 H) q386 (fun _ h => h) dJ9_init_2_17 ?_
  refine rk_putT C H.2.2.1 (tb_cons ⟨_, _, _, tyJ12, hc_J12 H, (Nat.le_of_ble_eq_true rfl), in_J12, tyJ12_ok, nmJ12, rfl, rfl⟩ (tb_cons ⟨_, _, _, tyJ19, hc_J19 H, (Nat.le_of_ble_eq_true rfl), in_J19, tyJ19_ok, nmJ19, rfl, rfl⟩ (tb_cons ⟨_, _, _, tyJ26, hc_J26 H, (Nat.le_of_ble_eq_true rfl), in_J26, tyJ26_ok, nmJ26, rfl, rfl⟩ (tb_cons ⟨_, _, _, tyJ28, hc_J28 H, (Nat.le_of_ble_eq_true rfl), in_J28, tyJ28_ok, nmJ28, rfl, rfl⟩ (tb_cons ⟨_, _, _, tyJ29, hc_J29 H, (Nat.le_of_ble_eq_true rfl), in_J29, tyJ29_ok, nmJ29, rfl, rfl⟩ (tb_cons ⟨_, _, _, tyJ30, hc_J30 H, (Nat.le_of_ble_eq_true rfl), in_J30, tyJ30_ok, nmJ30, rfl, rfl⟩ (tb_cons ⟨_, _, _, tyJ31, hc_J31 H, (Nat.le_of_ble_eq_true rfl), in_J31, tyJ31_ok, nmJ31, rfl, rfl⟩ (tb_cons ⟨_, _, _, tyJ32, hc_J32 H, (Nat.le_of_ble_eq_true rfl), in_J32, tyJ32_ok, nmJ32, rfl, rfl⟩ (tb_cons ⟨_, _, _, tyX4, hc_X4 H, (Nat.le_of_ble_eq_true rfl), in_X4, tyX4_ok, nmX4, rfl, rfl⟩ (tb_cons ⟨_, _, _, tyX12, hc_X12 H, (Nat.le_of_ble_eq_true rfl), in_X12, tyX12_ok, nmX12, rfl, rfl⟩ (tb_nil))))))))))) q626 (zn_R rfl _) (zp_R rfl _) dJ9_init_2_20 ?_
  refine rk_of (fun _ _ _ _ _ k => lr_aload_n hx hb dJ9_init_2_23 rfl (lv_at hl 0 rfl) k) ?_
  refine rk_filT H C (zh_thr H C) (tb_cons ⟨_, _, _, tyJ12, hc_J12 H, (Nat.le_of_ble_eq_true rfl), in_J12, tyJ12_ok, nmJ12, rfl, (C.2.2.2.1 _ q395), (C.2.2.2.1 _ q598)⟩ (tb_cons ⟨_, _, _, tyJ19, hc_J19 H, (Nat.le_of_ble_eq_true rfl), in_J19, tyJ19_ok, nmJ19, rfl, (C.2.2.2.1 _ q368), (C.2.2.2.1 _ q367)⟩ (tb_cons ⟨_, _, _, tyJ26, hc_J26 H, (Nat.le_of_ble_eq_true rfl), in_J26, tyJ26_ok, nmJ26, rfl, (C.2.2.2.1 _ q399), (C.2.2.2.1 _ q789)⟩ (tb_cons ⟨_, _, _, tyJ28, hc_J28 H, (Nat.le_of_ble_eq_true rfl), in_J28, tyJ28_ok, nmJ28, rfl, (C.2.2.2.1 _ q398), (C.2.2.2.1 _ q1358)⟩ (tb_cons ⟨_, _, _, tyJ29, hc_J29 H, (Nat.le_of_ble_eq_true rfl), in_J29, tyJ29_ok, nmJ29, rfl, (C.2.2.2.1 _ q394), (C.2.2.2.1 _ q1388)⟩ (tb_cons ⟨_, _, _, tyJ30, hc_J30 H, (Nat.le_of_ble_eq_true rfl), in_J30, tyJ30_ok, nmJ30, rfl, (C.2.2.2.1 _ q396), (C.2.2.2.1 _ q1932)⟩ (tb_cons ⟨_, _, _, tyJ32, hc_J32 H, (Nat.le_of_ble_eq_true rfl), in_J32, tyJ32_ok, nmJ32, rfl, (C.2.2.2.1 _ q393), (C.2.2.2.1 _ q2523)⟩ (tb_cons ⟨_, _, _, tyX4, hc_X4 H, (Nat.le_of_ble_eq_true rfl), in_X4, tyX4_ok, nmX4, rfl, (C.2.2.2.1 _ q391), (C.2.2.2.1 _ q1155)⟩ (tb_cons ⟨_, _, _, tyX12, hc_X12 H, (Nat.le_of_ble_eq_true rfl), in_X12, tyX12_ok, nmX12, rfl, (C.2.2.2.1 _ q392), (C.2.2.2.1 _ q2147)⟩ (tb_nil)))))))))) q388 (Nat.le_of_ble_eq_true rfl) (zw_ad zw_nil (Nat.le_of_ble_eq_true rfl)) hl.1 dJ9_init_2_24 ?_
  refine rk_of (fun _ _ _ _ _ k => lv_pop hx hb dJ9_init_2_27 (va_rf_cat _) (lr_aload_n hx hb dJ9_init_2_28 rfl (lv_at hl 0 rfl) (lr_aload_n hx hb dJ9_init_2_29 rfl (lv_at hl 1 rfl) k))) ?_
  refine rk_putT C H.2.2.1 (tb_cons ⟨_, _, _, tyJ12, hc_J12 H, (Nat.le_of_ble_eq_true rfl), in_J12, tyJ12_ok, nmJ12, rfl, rfl⟩ (tb_cons ⟨_, _, _, tyJ19, hc_J19 H, (Nat.le_of_ble_eq_true rfl), in_J19, tyJ19_ok, nmJ19, rfl, rfl⟩ (tb_cons ⟨_, _, _, tyJ26, hc_J26 H, (Nat.le_of_ble_eq_true rfl), in_J26, tyJ26_ok, nmJ26, rfl, rfl⟩ (tb_cons ⟨_, _, _, tyJ28, hc_J28 H, (Nat.le_of_ble_eq_true rfl), in_J28, tyJ28_ok, nmJ28, rfl, rfl⟩ (tb_cons ⟨_, _, _, tyJ29, hc_J29 H, (Nat.le_of_ble_eq_true rfl), in_J29, tyJ29_ok, nmJ29, rfl, rfl⟩ (tb_cons ⟨_, _, _, tyJ30, hc_J30 H, (Nat.le_of_ble_eq_true rfl), in_J30, tyJ30_ok, nmJ30, rfl, rfl⟩ (tb_cons ⟨_, _, _, tyJ31, hc_J31 H, (Nat.le_of_ble_eq_true rfl), in_J31, tyJ31_ok, nmJ31, rfl, rfl⟩ (tb_cons ⟨_, _, _, tyJ32, hc_J32 H, (Nat.le_of_ble_eq_true rfl), in_J32, tyJ32_ok, nmJ32, rfl, rfl⟩ (tb_cons ⟨_, _, _, tyX4, hc_X4 H, (Nat.le_of_ble_eq_true rfl), in_X4, tyX4_ok, nmX4, rfl, rfl⟩ (tb_cons ⟨_, _, _, tyX12, hc_X12 H, (Nat.le_of_ble_eq_true rfl), in_X12, tyX12_ok, nmX12, rfl, rfl⟩ (tb_nil))))))))))) q623 (zn_R rfl _) (zp_R rfl _) dJ9_init_2_30 ?_
  exact rk_top (rf_vret C dJ9_init_2_33)
theorem hd_J10_init : yJ10_init.cls ≠ "java/lang/invoke/MethodHandle" ∧ yJ10_init.cls ≠ "java/lang/invoke/VarHandle" ∧ (parseMethodDescriptor yJ10_init.desc).map (fun d => d.parameters.length) = some 1 := by decide +kernel
noncomputable def fn_J10_init (K : zm_K) (a0 : zm_R) (a1 : zm_R) : zm_M Unit :=
  zm_bnd (zm_bnd (zm_nn a0) fun _ => fn_J9_init_2 K a0 a1) fun _ =>
  zm_ret ()
theorem ct_J10_init {l : Launch} {Ω : zm_W} {K : zm_K} (H : zm_H Ω K) (a0 : zm_R) (a1 : zm_R) : zm_Ct l Ω yJ10_init (ws_ yJ10_init cJ10_init 2 (Option.none : Option Jvm.ClassFile.FieldType)) 5 149 [va_rf a0, va_rf a1] zm_tvV (fn_J10_init K a0 a1) := by
  refine zm_ct H.1 (by decide +kernel) (zl_le (zl_R (zl_R zl_nil)) (Nat.le_of_ble_eq_true rfl)) ?_
  intro p e R s m args below meth c n0 k0 C hX ls hl
  have hx := C.1
  have hb := C.2.1
  simp only [zg_R, zg_nil] at hl
  have hl : lv_has ls 2 [(0, va_rf a0), (1, va_rf a1)] := hl
  refine rk_rf ?_
  unfold fn_J10_init
  refine rk_of (fun _ _ _ _ _ k => lr_aload_n hx hb dJ10_init_0 rfl (lv_at hl 0 rfl) (lr_aload_n hx hb dJ10_init_1 rfl (lv_at hl 1 rfl) k)) ?_
  refine rk_callV hX (cl_Ir (rest := []) C (ct_J9_init_2 H a0 a1) (lw_meth q621) q113 q619 q620 rfl hd_J9_init_2 ⟨(Nat.le_of_ble_eq_true rfl), (Nat.le_of_ble_eq_true rfl)⟩ rfl hl.1 rfl (zw_le zw_nil (Nat.le_of_ble_eq_true rfl)) dJ10_init_2) (fun _ => ?_)
  exact rk_top (rf_vret C dJ10_init_5)
theorem hd_J11_init : yJ11_init.cls ≠ "java/lang/invoke/MethodHandle" ∧ yJ11_init.cls ≠ "java/lang/invoke/VarHandle" ∧ (parseMethodDescriptor yJ11_init.desc).map (fun d => d.parameters.length) = some 1 := by decide +kernel
noncomputable def fn_J11_init (K : zm_K) (a0 : zm_R) (a1 : zm_R) : zm_M Unit :=
  zm_bnd (zm_bnd (zm_nn a0) fun _ => fn_J10_init K a0 a1) fun _ =>
  zm_ret ()
theorem ct_J11_init {l : Launch} {Ω : zm_W} {K : zm_K} (H : zm_H Ω K) (a0 : zm_R) (a1 : zm_R) : zm_Ct l Ω yJ11_init (ws_ yJ11_init cJ11_init 2 (Option.none : Option Jvm.ClassFile.FieldType)) 6 170 [va_rf a0, va_rf a1] zm_tvV (fn_J11_init K a0 a1) := by
  refine zm_ct H.1 (by decide +kernel) (zl_le (zl_R (zl_R zl_nil)) (Nat.le_of_ble_eq_true rfl)) ?_
  intro p e R s m args below meth c n0 k0 C hX ls hl
  have hx := C.1
  have hb := C.2.1
  simp only [zg_R, zg_nil] at hl
  have hl : lv_has ls 2 [(0, va_rf a0), (1, va_rf a1)] := hl
  refine rk_rf ?_
  unfold fn_J11_init
  refine rk_of (fun _ _ _ _ _ k => lr_aload_n hx hb dJ11_init_0 rfl (lv_at hl 0 rfl) (lr_aload_n hx hb dJ11_init_1 rfl (lv_at hl 1 rfl) k)) ?_
  refine rk_callV hX (cl_Ir (rest := []) C (ct_J10_init H a0 a1) (lw_meth q618) q114 q616 q617 rfl hd_J10_init ⟨(Nat.le_of_ble_eq_true rfl), (Nat.le_of_ble_eq_true rfl)⟩ rfl hl.1 rfl (zw_le zw_nil (Nat.le_of_ble_eq_true rfl)) dJ11_init_2) (fun _ => ?_)
  exact rk_top (rf_vret C dJ11_init_5)
theorem hd_J19_init : yJ19_init.cls ≠ "java/lang/invoke/MethodHandle" ∧ yJ19_init.cls ≠ "java/lang/invoke/VarHandle" ∧ (parseMethodDescriptor yJ19_init.desc).map (fun d => d.parameters.length) = some 1 := by decide +kernel
noncomputable def fn_J19_init (K : zm_K) (a0 : zm_R) (a1 : zm_R) : zm_M Unit :=
  zm_bnd (zm_bnd (zm_nn a0) fun _ => fn_J11_init K a0 a1) fun _ =>
  zm_ret ()
theorem ct_J19_init {l : Launch} {Ω : zm_W} {K : zm_K} (H : zm_H Ω K) (a0 : zm_R) (a1 : zm_R) : zm_Ct l Ω yJ19_init (ws_ yJ19_init cJ19_init 2 (Option.none : Option Jvm.ClassFile.FieldType)) 7 191 [va_rf a0, va_rf a1] zm_tvV (fn_J19_init K a0 a1) := by
  refine zm_ct H.1 (by decide +kernel) (zl_le (zl_R (zl_R zl_nil)) (Nat.le_of_ble_eq_true rfl)) ?_
  intro p e R s m args below meth c n0 k0 C hX ls hl
  have hx := C.1
  have hb := C.2.1
  simp only [zg_R, zg_nil] at hl
  have hl : lv_has ls 2 [(0, va_rf a0), (1, va_rf a1)] := hl
  refine rk_rf ?_
  unfold fn_J19_init
  refine rk_of (fun _ _ _ _ _ k => lr_aload_n hx hb dJ19_init_0 rfl (lv_at hl 0 rfl) (lr_aload_n hx hb dJ19_init_1 rfl (lv_at hl 1 rfl) k)) ?_
  refine rk_callV hX (cl_Ir (rest := []) C (ct_J11_init H a0 a1) (lw_meth q615) q115 q664 q614 rfl hd_J11_init ⟨(Nat.le_of_ble_eq_true rfl), (Nat.le_of_ble_eq_true rfl)⟩ rfl hl.1 rfl (zw_le zw_nil (Nat.le_of_ble_eq_true rfl)) dJ19_init_2) (fun _ => ?_)
  exact rk_top (rf_vret C dJ19_init_5)
theorem hd_J4_checkPositionIndex : yJ4_checkPositionIndex.cls ≠ "java/lang/invoke/MethodHandle" ∧ yJ4_checkPositionIndex.cls ≠ "java/lang/invoke/VarHandle" ∧ (parseMethodDescriptor yJ4_checkPositionIndex.desc).map (fun d => d.parameters.length) = some 1 := by decide +kernel
noncomputable def fn_J4_checkPositionIndex (K : zm_K) (a0 : zm_R) (a1 : Int32) : zm_M Unit :=
  zm_bnd (zm_bnd (zm_is a0 1) fun _ => fn_J4_isPositionIndex K a0 a1) fun v2 =>
  if v2 = 0 then
    zm_bnd (zm_new 8 [.null, .null, .null, .null, .null, .int 0]) fun v8 =>
    zm_fl
  else
    zm_ret ()
theorem ct_J4_checkPositionIndex {l : Launch} {Ω : zm_W} {K : zm_K} (H : zm_H Ω K) (a0 : zm_R) (a1 : Int32) : zm_Ct l Ω yJ4_checkPositionIndex (ws_ yJ4_checkPositionIndex cJ4_checkPositionIndex 2 (Option.none : Option Jvm.ClassFile.FieldType)) 8 212 [va_rf a0, .int a1] zm_tvV (fn_J4_checkPositionIndex K a0 a1) := by
  refine zm_ct H.1 (by decide +kernel) (zl_le (zl_R (zl_I zl_nil)) (Nat.le_of_ble_eq_true rfl)) ?_
  intro p e R s m args below meth c n0 k0 C hX ls hl
  have hx := C.1
  have hb := C.2.1
  simp only [zg_I, zg_R, zg_nil] at hl
  have hl : lv_has ls 2 [(0, va_rf a0), (1, .int a1)] := hl
  refine rk_rf ?_
  unfold fn_J4_checkPositionIndex
  refine rk_of (fun _ _ _ _ _ k => lr_aload_n hx hb dJ4_checkPositionIndex_0 rfl (lv_at hl 0 rfl) (lv_iload_n hx hb dJ4_checkPositionIndex_1 rfl (lv_at hl 1 rfl) k)) ?_
  refine rk_callI hX (cl_V (rest := []) (av := [.int a1]) C (hc_J4 H) (ct_J4_isPositionIndex H a0 a1) (lw_V q688 q690 qs4 q107 q691) ⟨rfl, hd_J4_isPositionIndex⟩ ⟨(Nat.le_of_ble_eq_true rfl), (Nat.le_of_ble_eq_true rfl)⟩ rfl hl.1 rfl (zw_le zw_nil (Nat.le_of_ble_eq_true rfl)) dJ4_checkPositionIndex_2) (fun v2 => ?_)
  refine rk_ite (fun _ _ _ _ _ k1 k2 => lv_if_ne (tgt := 21) hx hb dJ4_checkPositionIndex_5 (by decide) k2 k1) (fun c_5 => ?_) (fun c_5 => ?_)
  · refine rk_new C (hc_J19 H) in_J19 tyJ19_ok q692 q359 q126 (fs := [.null, .null, .null, .null, .null, .int 0]) rfl (fun j hj => zdf_J19 j hj) dJ4_checkPositionIndex_8 (fun v8 => ?_)
    refine rk_of (fun _ _ _ _ _ k => lv_dup hx hb dJ4_checkPositionIndex_11 (va_rf_cat _) (lr_aload_n hx hb dJ4_checkPositionIndex_12 rfl (lv_at hl 0 rfl) (lv_iload_n hx hb dJ4_checkPositionIndex_13 rfl (lv_at hl 1 rfl) k))) ?_
    exact rk_fl
  · exact rk_top (rf_vret C dJ4_checkPositionIndex_21)
theorem hd_J4_node : yJ4_node.cls ≠ "java/lang/invoke/MethodHandle" ∧ yJ4_node.cls ≠ "java/lang/invoke/VarHandle" ∧ (parseMethodDescriptor yJ4_node.desc).map (fun d => d.parameters.length) = some 1 := by decide +kernel
noncomputable def fn_J4_node_47 (K : zm_K) (p1 : Int32) : Nat → zm_R → Int32 → zm_M (zm_R)
  | 0, _, _ => zm_fl
  | n + 1, x2, x3 =>
    if x3 ≤ p1 then
      zm_ret x2
    else
      zm_bnd (zm_getR x2 7 2) fun v53 =>
      fn_J4_node_47 K p1 n v53 (x3 + (-1))
noncomputable def fn_J4_node_17 (K : zm_K) (p1 : Int32) : Nat → zm_R → Int32 → zm_M (zm_R)
  | 0, _, _ => zm_fl
  | n + 1, x2, x3 =>
    if p1 ≤ x3 then
      zm_ret x2
    else
      zm_bnd (zm_getR x2 7 1) fun v23 =>
      fn_J4_node_17 K p1 n v23 (x3 + 1)
noncomputable def fn_J4_node (K : zm_K) (a0 : zm_R) (a1 : Int32) : zm_M zm_R :=
  zm_bnd (zm_getI a0 1 1) fun v2 =>
  if (v2 >>> (1 &&& 31)) ≤ a1 then
    zm_bnd (zm_getR a0 1 3) fun v36 =>
    zm_bnd (zm_getI a0 1 1) fun v41 =>
    zm_bnd (α := zm_R) (fn_J4_node_47 K a1 zm_N v36 (v41 - 1)) fun b63 =>
    zm_ret b63
  else
    zm_bnd (zm_getR a0 1 2) fun v11 =>
    zm_bnd (α := zm_R) (fn_J4_node_17 K a1 zm_N v11 0) fun b33 =>
    zm_ret b33
theorem rf_J4_node_47 (H : zm_H Ω K) (C : zm_C p l R s m args meth c Ω lw_all cJ4_node yJ4_node.cls yJ4_node.name 4 1 64 (Option.some (Jvm.ClassFile.FieldType.object "java/util/LinkedList$Node"))) (hX : zm_XO p l e R s m args below meth c Ω n0 k0 (zm_QFs below args s Ω n0 k0 zm_tvR)) (p1 : Int32) : ∀ (n : Nat) (x2 : zm_R) (x3 : Int32) (J : (zm_R) → zm_M zm_R) (ls : Array Slot), lv_has ls 4 [(1, .int p1), (2, va_rf x2), (3, .int x3)] → (∀ (b : zm_R) (ls : Array Slot), lv_has ls 4 [(2, va_rf b)] → zm_RK p l e R s m args below meth c Ω n0 k0 (zm_QFs below args s Ω n0 k0 zm_tvR) (zm_ret b) J (F0 m 63 ls [])) → zm_RK p l e R s m args below meth c Ω n0 k0 (zm_QFs below args s Ω n0 k0 zm_tvR) (fn_J4_node_47 K p1 n x2 x3) J (F0 m 47 ls []) := by
  have hx := C.1
  have hb := C.2.1
  intro n
  induction n with
  | zero => intro x2 x3 J ls hl hJ; exact rk_fl
  | succ n ih =>
    intro x2 x3 J ls hl hJ
    unfold fn_J4_node_47
    refine rk_ite (fun _ _ _ _ _ k1 k2 => lv_iload_n hx hb dJ4_node_47 rfl (lv_at hl 2 rfl) (lv_iload_n hx hb dJ4_node_48 rfl (lv_at hl 0 rfl) (lv_icmp_le (tgt := 63) hx hb dJ4_node_49 (by decide) k1 k2))) (fun c_49 => ?_) (fun c_49 => ?_)
    · exact hJ x2 ls (lv_sub hl [1] rfl)
    · refine rk_of (fun _ _ _ _ _ k => lr_aload_n hx hb dJ4_node_52 rfl (lv_at hl 1 rfl) k) ?_
      refine rk_get zm_rdR_eq C (hc_J18 H) (k := 2) (Nat.le_of_ble_eq_true rfl) in_J18 q1254 (fun _ h => h) dJ4_node_53 (fun v53 => ?_)
      refine rk_ofs (fun _ _ _ _ _ k => lr_astore_n hx hb dJ4_node_56 rfl hl (Nat.le_of_ble_eq_true rfl) [0, 2] rfl ⟨rfl, ⟨trivial, trivial⟩⟩ k) (fun ls hl => ?_)
      refine rk_ofs (fun _ _ _ _ _ k => lr_iinc (v := x3 + (-1)) hx hb dJ4_node_57 hl (k := 2) rfl rfl (Nat.le_of_ble_eq_true rfl) [0, 1] rfl ⟨(by first | exact va_rf_cat _ | rfl), ⟨trivial, trivial⟩⟩ k) (fun ls hl => ?_)
      refine rk_of (fun _ _ _ _ _ k => lv_goto (tgt := 47) hx hb dJ4_node_60 (by decide) k) ?_
      exact ih v53 (x3 + (-1)) J ls (lv_sub hl [2, 1, 0] rfl) hJ
theorem rf_J4_node_17 (H : zm_H Ω K) (C : zm_C p l R s m args meth c Ω lw_all cJ4_node yJ4_node.cls yJ4_node.name 4 1 64 (Option.some (Jvm.ClassFile.FieldType.object "java/util/LinkedList$Node"))) (hX : zm_XO p l e R s m args below meth c Ω n0 k0 (zm_QFs below args s Ω n0 k0 zm_tvR)) (p1 : Int32) : ∀ (n : Nat) (x2 : zm_R) (x3 : Int32) (J : (zm_R) → zm_M zm_R) (ls : Array Slot), lv_has ls 4 [(1, .int p1), (2, va_rf x2), (3, .int x3)] → (∀ (b : zm_R) (ls : Array Slot), lv_has ls 4 [(2, va_rf b)] → zm_RK p l e R s m args below meth c Ω n0 k0 (zm_QFs below args s Ω n0 k0 zm_tvR) (zm_ret b) J (F0 m 33 ls [])) → zm_RK p l e R s m args below meth c Ω n0 k0 (zm_QFs below args s Ω n0 k0 zm_tvR) (fn_J4_node_17 K p1 n x2 x3) J (F0 m 17 ls []) := by
  have hx := C.1
  have hb := C.2.1
  intro n
  induction n with
  | zero => intro x2 x3 J ls hl hJ; exact rk_fl
  | succ n ih =>
    intro x2 x3 J ls hl hJ
    unfold fn_J4_node_17
    refine rk_ite (fun _ _ _ _ _ k1 k2 => lv_iload_n hx hb dJ4_node_17 rfl (lv_at hl 2 rfl) (lv_iload_n hx hb dJ4_node_18 rfl (lv_at hl 0 rfl) (lv_icmp_ge (tgt := 33) hx hb dJ4_node_19 (by decide) k1 k2))) (fun c_19 => ?_) (fun c_19 => ?_)
    · exact hJ x2 ls (lv_sub hl [1] rfl)
    · refine rk_of (fun _ _ _ _ _ k => lr_aload_n hx hb dJ4_node_22 rfl (lv_at hl 1 rfl) k) ?_
      refine rk_get zm_rdR_eq C (hc_J18 H) (k := 1) (Nat.le_of_ble_eq_true rfl) in_J18 q1252 (fun _ h => h) dJ4_node_23 (fun v23 => ?_)
      refine rk_ofs (fun _ _ _ _ _ k => lr_astore_n hx hb dJ4_node_26 rfl hl (Nat.le_of_ble_eq_true rfl) [0, 2] rfl ⟨rfl, ⟨trivial, trivial⟩⟩ k) (fun ls hl => ?_)
      refine rk_ofs (fun _ _ _ _ _ k => lr_iinc (v := x3 + 1) hx hb dJ4_node_27 hl (k := 2) rfl rfl (Nat.le_of_ble_eq_true rfl) [0, 1] rfl ⟨(by first | exact va_rf_cat _ | rfl), ⟨trivial, trivial⟩⟩ k) (fun ls hl => ?_)
      refine rk_of (fun _ _ _ _ _ k => lv_goto (tgt := 17) hx hb dJ4_node_30 (by decide) k) ?_
      exact ih v23 (x3 + 1) J ls (lv_sub hl [2, 1, 0] rfl) hJ
theorem ct_J4_node {l : Launch} {Ω : zm_W} {K : zm_K} (H : zm_H Ω K) (a0 : zm_R) (a1 : Int32) : zm_Ct l Ω yJ4_node (ws_ yJ4_node cJ4_node 4 (Option.some (Jvm.ClassFile.FieldType.object "java/util/LinkedList$Node"))) 1 64 [va_rf a0, .int a1] zm_tvR (fn_J4_node K a0 a1) := by
  refine zm_ct H.1 (by decide +kernel) (zl_le (zl_R (zl_I zl_nil)) (Nat.le_of_ble_eq_true rfl)) ?_
  intro p e R s m args below meth c n0 k0 C hX ls hl
  have hx := C.1
  have hb := C.2.1
  simp only [zg_I, zg_R, zg_nil] at hl
  have hl : lv_has ls 4 [(0, va_rf a0), (1, .int a1)] := hl
  refine rk_rf ?_
  unfold fn_J4_node
  refine rk_of (fun _ _ _ _ _ k => lv_iload_n hx hb dJ4_node_0 rfl (lv_at hl 1 rfl) (lr_aload_n hx hb dJ4_node_1 rfl (lv_at hl 0 rfl) k)) ?_
  refine rk_get zm_rdI_eq C (hc_J4 H) (k := 1) (Nat.le_of_ble_eq_true rfl) in_J4 q225 (fun _ h => h) dJ4_node_2 (fun v2 => ?_)
  refine rk_ite (fun _ _ _ _ _ k1 k2 => lv_iconst (v := 1) hx hb dJ4_node_5 rfl (lv_ishr hx hb dJ4_node_6 (lv_icmp_ge (tgt := 35) hx hb dJ4_node_7 (by decide) k1 k2))) (fun c_7 => ?_) (fun c_7 => ?_)
  · refine rk_of (fun _ _ _ _ _ k => lr_aload_n hx hb dJ4_node_35 rfl (lv_at hl 0 rfl) k) ?_
    refine rk_get zm_rdR_eq C (hc_J4 H) (k := 3) (Nat.le_of_ble_eq_true rfl) in_J4 q228 (fun _ h => h) dJ4_node_36 (fun v36 => ?_)
    refine rk_ofs (fun _ _ _ _ _ k => lr_astore_n hx hb dJ4_node_39 rfl hl (Nat.le_of_ble_eq_true rfl) [0, 1] rfl ⟨trivial, ⟨rfl, trivial⟩⟩ k) (fun ls hl => ?_)
    refine rk_of (fun _ _ _ _ _ k => lr_aload_n hx hb dJ4_node_40 rfl (lv_at hl 1 rfl) k) ?_
    refine rk_get zm_rdI_eq C (hc_J4 H) (k := 1) (Nat.le_of_ble_eq_true rfl) in_J4 q225 (fun _ h => h) dJ4_node_41 (fun v41 => ?_)
    refine rk_ofs (fun _ _ _ _ _ k => lv_iconst (v := 1) hx hb dJ4_node_44 rfl (lv_isub hx hb dJ4_node_45 (lr_istore_n hx hb dJ4_node_46 rfl hl (Nat.le_of_ble_eq_true rfl) [0, 2] rfl ⟨(by first | exact va_rf_cat _ | rfl), ⟨trivial, trivial⟩⟩ k))) (fun ls hl => ?_)
    refine rk_join (β := zm_R) (fun (b63 : zm_R) ls => lv_has ls 4 [(2, va_rf b63)]) (fun (b63 : zm_R) ls => F0 m 63 ls []) (fun b63 ls hl => ?_) (fun hJ63 => ?_)
    · refine rk_of (fun _ _ _ _ _ k => lr_aload_n hx hb dJ4_node_63 rfl (lv_at hl 0 rfl) k) ?_
      exact rk_top (rf_aret C (Or.inl ⟨_, rfl⟩) dJ4_node_64)
    · exact rf_J4_node_47 H C hX a1 zm_N v36 (v41 - 1) _ ls (lv_sub hl [2, 1, 0] rfl) hJ63
  · refine rk_of (fun _ _ _ _ _ k => lr_aload_n hx hb dJ4_node_10 rfl (lv_at hl 0 rfl) k) ?_
    refine rk_get zm_rdR_eq C (hc_J4 H) (k := 2) (Nat.le_of_ble_eq_true rfl) in_J4 q227 (fun _ h => h) dJ4_node_11 (fun v11 => ?_)
    refine rk_ofs (fun _ _ _ _ _ k => lr_astore_n hx hb dJ4_node_14 rfl hl (Nat.le_of_ble_eq_true rfl) [1] rfl ⟨rfl, trivial⟩ k) (fun ls hl => ?_)
    refine rk_ofs (fun _ _ _ _ _ k => lv_iconst (v := 0) hx hb dJ4_node_15 rfl (lr_istore_n hx hb dJ4_node_16 rfl hl (Nat.le_of_ble_eq_true rfl) [0, 1] rfl ⟨(by first | exact va_rf_cat _ | rfl), ⟨trivial, trivial⟩⟩ k)) (fun ls hl => ?_)
    refine rk_join (β := zm_R) (fun (b33 : zm_R) ls => lv_has ls 4 [(2, va_rf b33)]) (fun (b33 : zm_R) ls => F0 m 33 ls []) (fun b33 ls hl => ?_) (fun hJ33 => ?_)
    · refine rk_of (fun _ _ _ _ _ k => lr_aload_n hx hb dJ4_node_33 rfl (lv_at hl 0 rfl) k) ?_
      exact rk_top (rf_aret C (Or.inl ⟨_, rfl⟩) dJ4_node_34)
    · exact rf_J4_node_17 H C hX a1 zm_N v11 0 _ ls (lv_sub hl [2, 1, 0] rfl) hJ33
theorem hd_J18_init : yJ18_init.cls ≠ "java/lang/invoke/MethodHandle" ∧ yJ18_init.cls ≠ "java/lang/invoke/VarHandle" ∧ (parseMethodDescriptor yJ18_init.desc).map (fun d => d.parameters.length) = some 3 := by decide +kernel
noncomputable def fn_J18_init (K : zm_K) (a0 : zm_R) (a1 : zm_R) (a2 : zm_R) (a3 : zm_R) : zm_M Unit :=
  zm_bnd (zm_grd (a0 ≠ none)) fun _ =>
  zm_bnd (zm_putF K a0 7 0 (va_rf a2)) fun _ =>
  zm_bnd (zm_putF K a0 7 1 (va_rf a3)) fun _ =>
  zm_bnd (zm_putF K a0 7 2 (va_rf a1)) fun _ =>
  zm_ret ()
theorem ct_J18_init {l : Launch} {Ω : zm_W} {K : zm_K} (H : zm_H Ω K) (a0 : zm_R) (a1 : zm_R) (a2 : zm_R) (a3 : zm_R) : zm_Ct l Ω yJ18_init (ws_ yJ18_init cJ18_init 4 (Option.none : Option Jvm.ClassFile.FieldType)) 2 84 [va_rf a0, va_rf a1, va_rf a2, va_rf a3] zm_tvV (fn_J18_init K a0 a1 a2 a3) := by
  refine zm_ct H.1 (by decide +kernel) (zl_le (zl_R (zl_R (zl_R (zl_R zl_nil)))) (Nat.le_of_ble_eq_true rfl)) ?_
  intro p e R s m args below meth c n0 k0 C hX ls hl
  have hx := C.1
  have hb := C.2.1
  simp only [zg_R, zg_nil] at hl
  have hl : lv_has ls 4 [(0, va_rf a0), (1, va_rf a1), (2, va_rf a2), (3, va_rf a3)] := hl
  refine rk_rf ?_
  unfold fn_J18_init
  refine rk_of (fun _ _ _ _ _ k => lr_aload_n hx hb dJ18_init_0 rfl (lv_at hl 0 rfl) k) ?_
  refine rk_grd (fun hg_1 => ?_)
  refine rk_of (fun _ _ _ _ _ k => zo_init C hl.1 q1246 q156 q157 hg_1 (Nat.le_of_ble_eq_true rfl) (zw_le12 zw_nil (Nat.le_of_ble_eq_true rfl)) dJ18_init_1 k) ?_
  refine rk_of (fun _ _ _ _ _ k => lr_aload_n hx hb dJ18_init_4 rfl (lv_at hl 0 rfl) (lr_aload_n hx hb dJ18_init_5 rfl (lv_at hl 2 rfl) k)) ?_
  refine rk_put C H.2.2.1 (hc_J18 H) (k := 0) (Nat.le_of_ble_eq_true rfl) in_J18 (ty0 := tyJ18) tyJ18_ok nmJ18 q1247 (fun _ h => h) (Or.inl rfl) (zn_R rfl _) (zp_R rfl _) dJ18_init_6 ?_
  refine rk_of (fun _ _ _ _ _ k => lr_aload_n hx hb dJ18_init_9 rfl (lv_at hl 0 rfl) (lr_aload_n hx hb dJ18_init_10 rfl (lv_at hl 3 rfl) k)) ?_
  refine rk_put C H.2.2.1 (hc_J18 H) (k := 1) (Nat.le_of_ble_eq_true rfl) in_J18 (ty0 := tyJ18) tyJ18_ok nmJ18 q1250 (fun _ h => h) (Or.inl rfl) (zn_R rfl _) (zp_R rfl _) dJ18_init_11 ?_
  refine rk_of (fun _ _ _ _ _ k => lr_aload_n hx hb dJ18_init_14 rfl (lv_at hl 0 rfl) (lr_aload_n hx hb dJ18_init_15 rfl (lv_at hl 1 rfl) k)) ?_
  refine rk_put C H.2.2.1 (hc_J18 H) (k := 2) (Nat.le_of_ble_eq_true rfl) in_J18 (ty0 := tyJ18) tyJ18_ok nmJ18 q1253 (fun _ h => h) (Or.inl rfl) (zn_R rfl _) (zp_R rfl _) dJ18_init_16 ?_
  exact rk_top (rf_vret C dJ18_init_19)
theorem hd_J4_addAll_2 : yJ4_addAll_2.cls ≠ "java/lang/invoke/MethodHandle" ∧ yJ4_addAll_2.cls ≠ "java/lang/invoke/VarHandle" ∧ (parseMethodDescriptor yJ4_addAll_2.desc).map (fun d => d.parameters.length) = some 2 := by decide +kernel
noncomputable def fn_J4_addAll_2_68 (K : zm_K) (p0 : zm_R) (p4 : Int32) (p6 : zm_R) (p7 : zm_R) (p8 : Int32) : Nat → zm_R → Int32 → zm_M (zm_R)
  | 0, _, _ => zm_fl
  | n + 1, x5, x9 =>
    if p8 ≤ x9 then
      zm_ret x5
    else
      zm_bnd (zm_aldR p7 x9) fun v79 =>
      zm_bnd (zm_new 7 [.null, .null, .null]) fun v86 =>
      zm_bnd (fn_J18_init K (some v86) x5 v79 none) fun _ =>
      zm_bnd (α := Unit) (
          if x5 = none then
            zm_bnd (zm_putF K p0 1 2 (va_rf (some v86))) fun _ =>
            zm_ret ()
          else
            zm_bnd (zm_putF K x5 7 1 (va_rf (some v86))) fun _ =>
            zm_ret ()
        ) fun (_ : Unit) =>
      fn_J4_addAll_2_68 K p0 p4 p6 p7 p8 n (some v86) (x9 + 1)
noncomputable def fn_J4_addAll_2 (K : zm_K) (a0 : zm_R) (a1 : Int32) (a2 : zm_R) : zm_M Int32 :=
  zm_bnd (zm_bnd (zm_is a0 1) fun _ => fn_J4_checkPositionIndex K a0 a1) fun _ =>
  zm_bnd (zm_bnd (zm_cls a2) fun ci => if ci = 0 then fn_J2_toArray K a2 else if ci = 1 then fn_J4_toArray K a2 else zm_fl) fun v6 =>
  zm_bnd (zm_alen v6) fun v13 =>
  if v13 = 0 then
    zm_ret 0
  else
    zm_bnd (zm_getI a0 1 1) fun v25 =>
    zm_bnd (α := zm_R × zm_R) (
        if a1 = v25 then
          zm_bnd (zm_getR a0 1 3) fun v35 =>
          zm_ret (v35, none)
        else
          zm_bnd (zm_bnd (zm_is a0 1) fun _ => fn_J4_node K a0 a1) fun v45 =>
          zm_bnd (zm_getR v45 7 2) fun v52 =>
          zm_ret (v52, v45)
      ) fun b57 =>
    zm_bnd (zm_alen v6) fun v62 =>
    zm_bnd (α := zm_R) (fn_J4_addAll_2_68 K a0 v13 b57.2 v6 v62 zm_N b57.1 0) fun b131 =>
    zm_bnd (α := Unit) (
        if b57.2 = none then
          zm_bnd (zm_putF K a0 1 3 (va_rf b131)) fun _ =>
          zm_ret ()
        else
          zm_bnd (zm_putF K b131 7 1 (va_rf b57.2)) fun _ =>
          zm_bnd (zm_putF K b57.2 7 2 (va_rf b131)) fun _ =>
          zm_ret ()
      ) fun (_ : Unit) =>
    zm_bnd (zm_getI a0 1 1) fun v161 =>
    zm_bnd (zm_putF K a0 1 1 (.int (v161 + v13))) fun _ =>
    zm_bnd (zm_getI a0 1 0) fun v172 =>
    zm_bnd (zm_putF K a0 1 0 (.int (v172 + 1))) fun _ =>
    zm_ret 1
theorem rf_J4_addAll_2_68 (H : zm_H Ω K) (C : zm_C p l R s m args meth c Ω lw_all cJ4_addAll_2 yJ4_addAll_2.cls yJ4_addAll_2.name 13 9 233 (Option.some Jvm.ClassFile.FieldType.boolean)) (hX : zm_XO p l e R s m args below meth c Ω n0 k0 (zm_QFs below args s Ω n0 k0 zm_tvI)) (p0 : zm_R) (p4 : Int32) (p6 : zm_R) (p7 : zm_R) (p8 : Int32) : ∀ (n : Nat) (x5 : zm_R) (x9 : Int32) (J : (zm_R) → zm_M Int32) (ls : Array Slot), lv_has ls 13 [(0, va_rf p0), (4, .int p4), (6, va_rf p6), (7, va_rf p7), (8, .int p8), (5, va_rf x5), (9, .int x9)] → (∀ (b : zm_R) (ls : Array Slot), lv_has ls 13 [(0, va_rf p0), (4, .int p4), (6, va_rf p6), (5, va_rf b)] → zm_RK p l e R s m args below meth c Ω n0 k0 (zm_QFs below args s Ω n0 k0 zm_tvI) (zm_ret b) J (F0 m 131 ls [])) → zm_RK p l e R s m args below meth c Ω n0 k0 (zm_QFs below args s Ω n0 k0 zm_tvI) (fn_J4_addAll_2_68 K p0 p4 p6 p7 p8 n x5 x9) J (F0 m 68 ls []) := by
  have hx := C.1
  have hb := C.2.1
  intro n
  induction n with
  | zero => intro x5 x9 J ls hl hJ; exact rk_fl
  | succ n ih =>
    intro x5 x9 J ls hl hJ
    unfold fn_J4_addAll_2_68
    refine rk_ite (fun _ _ _ _ _ k1 k2 => lv_iload hx hb dJ4_addAll_2_68 (lv_at hl 6 rfl) (lv_iload hx hb dJ4_addAll_2_70 (lv_at hl 4 rfl) (lv_icmp_ge (tgt := 131) hx hb dJ4_addAll_2_72 (by decide) k1 k2))) (fun c_72 => ?_) (fun c_72 => ?_)
    · exact hJ x5 ls (lv_sub hl [0, 1, 2, 5] rfl)
    · refine rk_of (fun _ _ _ _ _ k => lr_aload hx hb dJ4_addAll_2_75 (lv_at hl 3 rfl) (lv_iload hx hb dJ4_addAll_2_77 (lv_at hl 6 rfl) k)) ?_
      refine rk_aald C dJ4_addAll_2_79 (fun v79 => ?_)
      refine rk_ofs (fun _ _ _ _ _ k => lr_astore hx hb dJ4_addAll_2_80 hl (Nat.le_of_ble_eq_true rfl) [0, 1, 2, 3, 4, 5, 6] rfl ⟨trivial, ⟨trivial, ⟨trivial, ⟨trivial, ⟨trivial, ⟨trivial, ⟨rfl, trivial⟩⟩⟩⟩⟩⟩⟩ k) (fun ls hl => ?_)
      refine rk_ofs (fun _ _ _ _ _ k => lr_aload hx hb dJ4_addAll_2_82 (lv_at hl 0 rfl) (lr_astore hx hb dJ4_addAll_2_84 hl (Nat.le_of_ble_eq_true rfl) [1, 2, 3, 4, 5, 6, 7] rfl ⟨trivial, ⟨trivial, ⟨trivial, ⟨trivial, ⟨trivial, ⟨trivial, ⟨trivial, trivial⟩⟩⟩⟩⟩⟩⟩ k)) (fun ls hl => ?_)
      refine rk_new C (hc_J18 H) in_J18 tyJ18_ok q1241 q1242 q125 (fs := [.null, .null, .null]) rfl (fun j hj => zdf_J18 j hj) dJ4_addAll_2_86 (fun v86 => ?_)
      refine rk_of (fun _ _ _ _ _ k => lv_dup hx hb dJ4_addAll_2_89 (va_rf_cat _) (lr_aload hx hb dJ4_addAll_2_90 (lv_at hl 6 rfl) (lr_aload hx hb dJ4_addAll_2_92 (lv_at hl 0 rfl) (lr_null hx hb dJ4_addAll_2_94 k)))) ?_
      refine rk_callV hX (cl_I (rest := [va_rf (some v86)]) C (ct_J18_init H (some v86) x5 v79 none) (lw_meth q1245) q125 q1243 q1244 rfl hd_J18_init ⟨(Nat.le_of_ble_eq_true rfl), (Nat.le_of_ble_eq_true rfl)⟩ rfl hl.1 rfl (zw_le (zw_R zw_nil) (Nat.le_of_ble_eq_true rfl)) dJ4_addAll_2_95) (fun _ => ?_)
      refine rk_ofs (fun _ _ _ _ _ k => lr_astore hx hb dJ4_addAll_2_98 hl (Nat.le_of_ble_eq_true rfl) [1, 2, 3, 4, 5, 6, 7] rfl ⟨trivial, ⟨trivial, ⟨trivial, ⟨trivial, ⟨trivial, ⟨trivial, ⟨trivial, trivial⟩⟩⟩⟩⟩⟩⟩ k) (fun ls hl => ?_)
      refine rk_of (fun _ _ _ _ _ k => lr_aload hx hb dJ4_addAll_2_100 (lv_at hl 6 rfl) k) ?_
      refine rk_join (β := Unit) (fun (b121 : Unit) ls => lv_has ls 13 [(0, va_rf p0), (4, .int p4), (6, va_rf p6), (7, va_rf p7), (8, .int p8), (9, .int x9), (12, va_rf (some v86))]) (fun (b121 : Unit) ls => F0 m 121 ls []) (fun b121 ls hl => ?_) (fun hJ121 => ?_)
      · refine rk_ofs (fun _ _ _ _ _ k => lr_aload hx hb dJ4_addAll_2_121 (lv_at hl 6 rfl) (lr_astore hx hb dJ4_addAll_2_123 hl (Nat.le_of_ble_eq_true rfl) [0, 1, 2, 3, 4, 5] rfl ⟨trivial, ⟨rfl, ⟨trivial, ⟨trivial, ⟨trivial, ⟨trivial, trivial⟩⟩⟩⟩⟩⟩ k)) (fun ls hl => ?_)
        refine rk_ofs (fun _ _ _ _ _ k => lr_iinc (v := x9 + 1) hx hb dJ4_addAll_2_125 hl (k := 6) rfl rfl (Nat.le_of_ble_eq_true rfl) [0, 1, 2, 3, 4, 5] rfl ⟨trivial, ⟨trivial, ⟨trivial, ⟨trivial, ⟨trivial, ⟨rfl, trivial⟩⟩⟩⟩⟩⟩ k) (fun ls hl => ?_)
        refine rk_of (fun _ _ _ _ _ k => lv_goto (tgt := 68) hx hb dJ4_addAll_2_128 (by decide) k) ?_
        exact ih (some v86) (x9 + 1) J ls (lv_sub hl [2, 3, 4, 5, 6, 1, 0] rfl) hJ
      · refine rk_ite (fun _ _ _ _ _ k1 k2 => lr_ifnonnull (tgt := 114) hx hb dJ4_addAll_2_102 (by decide) k2 k1) (fun c_102 => ?_) (fun c_102 => ?_)
        · refine rk_of (fun _ _ _ _ _ k => lr_aload_n hx hb dJ4_addAll_2_105 rfl (lv_at hl 1 rfl) (lr_aload hx hb dJ4_addAll_2_106 (lv_at hl 0 rfl) k)) ?_
          refine rk_put C H.2.2.1 (hc_J4 H) (k := 2) (Nat.le_of_ble_eq_true rfl) in_J4 (ty0 := tyJ4) tyJ4_ok nmJ4 q227 (fun _ h => h) (Or.inl rfl) (zn_R rfl _) (zp_R rfl _) dJ4_addAll_2_108 ?_
          refine rk_of (fun _ _ _ _ _ k => lv_goto (tgt := 121) hx hb dJ4_addAll_2_111 (by decide) k) ?_
          exact hJ121 () ls (lv_sub hl [1, 2, 3, 4, 5, 7, 0] rfl)
        · refine rk_of (fun _ _ _ _ _ k => lr_aload hx hb dJ4_addAll_2_114 (lv_at hl 6 rfl) (lr_aload hx hb dJ4_addAll_2_116 (lv_at hl 0 rfl) k)) ?_
          refine rk_put C H.2.2.1 (hc_J18 H) (k := 1) (Nat.le_of_ble_eq_true rfl) in_J18 (ty0 := tyJ18) tyJ18_ok nmJ18 q1252 (fun _ h => h) (Or.inl rfl) (zn_R rfl _) (zp_R rfl _) dJ4_addAll_2_118 ?_
          exact hJ121 () ls (lv_sub hl [1, 2, 3, 4, 5, 7, 0] rfl)
theorem ct_J4_addAll_2 {l : Launch} {Ω : zm_W} {K : zm_K} (H : zm_H Ω K) (a0 : zm_R) (a1 : Int32) (a2 : zm_R) : zm_Ct l Ω yJ4_addAll_2 (ws_ yJ4_addAll_2 cJ4_addAll_2 13 (Option.some Jvm.ClassFile.FieldType.boolean)) 9 233 [va_rf a0, .int a1, va_rf a2] zm_tvI (fn_J4_addAll_2 K a0 a1 a2) := by
  refine zm_ct H.1 (by decide +kernel) (zl_le (zl_R (zl_I (zl_R zl_nil))) (Nat.le_of_ble_eq_true rfl)) ?_
  intro p e R s m args below meth c n0 k0 C hX ls hl
  have hx := C.1
  have hb := C.2.1
  simp only [zg_I, zg_R, zg_nil] at hl
  have hl : lv_has ls 13 [(0, va_rf a0), (1, .int a1), (2, va_rf a2)] := hl
  refine rk_rf ?_
  unfold fn_J4_addAll_2
  refine rk_of (fun _ _ _ _ _ k => lr_aload_n hx hb dJ4_addAll_2_0 rfl (lv_at hl 0 rfl) (lv_iload_n hx hb dJ4_addAll_2_1 rfl (lv_at hl 1 rfl) k)) ?_
  refine rk_callV hX (cl_V (rest := []) (av := [.int a1]) C (hc_J4 H) (ct_J4_checkPositionIndex H a0 a1) (lw_V q684 q686 qs3 q107 q687) ⟨rfl, hd_J4_checkPositionIndex⟩ ⟨(Nat.le_of_ble_eq_true rfl), (Nat.le_of_ble_eq_true rfl)⟩ rfl hl.1 rfl (zw_le zw_nil (Nat.le_of_ble_eq_true rfl)) dJ4_addAll_2_2) (fun _ => ?_)
  refine rk_of (fun _ _ _ _ _ k => lr_aload_n hx hb dJ4_addAll_2_5 rfl (lv_at hl 2 rfl) k) ?_
  refine rk_callR hX (cl_dsp (fun ci => cl_case (cl_F (n := 0) (rest := []) (av := []) C (hc_J2 H) (ct_J2_toArray H a2) (lw_F q1309 q1286 q1288 q105 q1290) (zh_Fw H C (by decide) q1284 q1283 q1289 q1287 q1285) (by decide +kernel) ⟨(Nat.le_of_ble_eq_true rfl), (Nat.le_of_ble_eq_true rfl)⟩ rfl hl.1 rfl (zw_le zw_nil (Nat.le_of_ble_eq_true rfl)) dJ4_addAll_2_6) (cl_case (cl_F (n := 0) (rest := []) (av := []) C (hc_J4 H) (ct_J4_toArray H a2) (lw_F q1309 q1292 q1294 q107 q1296) (zh_Fw H C (by decide) q1284 q1283 q1295 q1293 q1291) (by decide +kernel) ⟨(Nat.le_of_ble_eq_true rfl), (Nat.le_of_ble_eq_true rfl)⟩ rfl hl.1 rfl (zw_le zw_nil (Nat.le_of_ble_eq_true rfl)) dJ4_addAll_2_6) (cl_fl)))) (fun v6 => ?_)
  refine rk_ofs (fun _ _ _ _ _ k => lr_astore_n hx hb dJ4_addAll_2_11 rfl hl (Nat.le_of_ble_eq_true rfl) [0, 1] rfl ⟨trivial, ⟨trivial, trivial⟩⟩ k) (fun ls hl => ?_)
  refine rk_of (fun _ _ _ _ _ k => lr_aload_n hx hb dJ4_addAll_2_12 rfl (lv_at hl 0 rfl) k) ?_
  refine rk_alen C dJ4_addAll_2_13 (fun v13 => ?_)
  refine rk_ofs (fun _ _ _ _ _ k => lr_istore hx hb dJ4_addAll_2_14 hl (Nat.le_of_ble_eq_true rfl) [0, 1, 2] rfl ⟨(by first | exact va_rf_cat _ | rfl), ⟨trivial, ⟨trivial, trivial⟩⟩⟩ k) (fun ls hl => ?_)
  refine rk_ite (fun _ _ _ _ _ k1 k2 => lv_iload hx hb dJ4_addAll_2_16 (lv_at hl 0 rfl) (lv_if_ne (tgt := 23) hx hb dJ4_addAll_2_18 (by decide) k2 k1)) (fun c_18 => ?_) (fun c_18 => ?_)
  · refine rk_of (fun _ _ _ _ _ k => lv_iconst (v := 0) hx hb dJ4_addAll_2_21 rfl k) ?_
    exact rk_top (rf_iret C rfl dJ4_addAll_2_22)
  · refine rk_of (fun _ _ _ _ _ k => lv_iload_n hx hb dJ4_addAll_2_23 rfl (lv_at hl 3 rfl) (lr_aload_n hx hb dJ4_addAll_2_24 rfl (lv_at hl 2 rfl) k)) ?_
    refine rk_get zm_rdI_eq C (hc_J4 H) (k := 1) (Nat.le_of_ble_eq_true rfl) in_J4 q225 (fun _ h => h) dJ4_addAll_2_25 (fun v25 => ?_)
    refine rk_join (β := zm_R × zm_R) (fun (b57 : zm_R × zm_R) ls => lv_has ls 13 [(0, va_rf a0), (3, va_rf v6), (4, .int v13), (5, va_rf b57.1), (6, va_rf b57.2)]) (fun (b57 : zm_R × zm_R) ls => F0 m 57 ls []) (fun b57 ls hl => ?_) (fun hJ57 => ?_)
    · refine rk_ofs (fun _ _ _ _ _ k => lr_aload_n hx hb dJ4_addAll_2_57 rfl (lv_at hl 1 rfl) (lr_astore hx hb dJ4_addAll_2_58 hl (Nat.le_of_ble_eq_true rfl) [0, 2, 3, 4] rfl ⟨trivial, ⟨trivial, ⟨trivial, ⟨(by first | exact va_rf_cat _ | rfl), trivial⟩⟩⟩⟩ k)) (fun ls hl => ?_)
      refine rk_of (fun _ _ _ _ _ k => lr_aload hx hb dJ4_addAll_2_60 (lv_at hl 0 rfl) k) ?_
      refine rk_alen C dJ4_addAll_2_62 (fun v62 => ?_)
      refine rk_ofs (fun _ _ _ _ _ k => lr_istore hx hb dJ4_addAll_2_63 hl (Nat.le_of_ble_eq_true rfl) [0, 1, 2, 3, 4] rfl ⟨(by first | exact va_rf_cat _ | rfl), ⟨trivial, ⟨trivial, ⟨trivial, ⟨trivial, trivial⟩⟩⟩⟩⟩ k) (fun ls hl => ?_)
      refine rk_ofs (fun _ _ _ _ _ k => lv_iconst (v := 0) hx hb dJ4_addAll_2_65 rfl (lr_istore hx hb dJ4_addAll_2_66 hl (Nat.le_of_ble_eq_true rfl) [0, 1, 2, 3, 4, 5] rfl ⟨rfl, ⟨trivial, ⟨trivial, ⟨trivial, ⟨trivial, ⟨trivial, trivial⟩⟩⟩⟩⟩⟩ k)) (fun ls hl => ?_)
      refine rk_join (β := zm_R) (fun (b131 : zm_R) ls => lv_has ls 13 [(0, va_rf a0), (4, .int v13), (6, va_rf b57.2), (5, va_rf b131)]) (fun (b131 : zm_R) ls => F0 m 131 ls []) (fun b131 ls hl => ?_) (fun hJ131 => ?_)
      · refine rk_of (fun _ _ _ _ _ k => lr_aload hx hb dJ4_addAll_2_131 (lv_at hl 2 rfl) k) ?_
        refine rk_join (β := Unit) (fun (b159 : Unit) ls => lv_has ls 13 [(0, va_rf a0), (4, .int v13)]) (fun (b159 : Unit) ls => F0 m 159 ls []) (fun b159 ls hl => ?_) (fun hJ159 => ?_)
        · refine rk_of (fun _ _ _ _ _ k => lr_aload_n hx hb dJ4_addAll_2_159 rfl (lv_at hl 0 rfl) (lv_dup hx hb dJ4_addAll_2_160 (va_rf_cat _) k)) ?_
          refine rk_get zm_rdI_eq C (hc_J4 H) (k := 1) (Nat.le_of_ble_eq_true rfl) in_J4 q225 (fun _ h => h) dJ4_addAll_2_161 (fun v161 => ?_)
          refine rk_of (fun _ _ _ _ _ k => lv_iload hx hb dJ4_addAll_2_164 (lv_at hl 1 rfl) (lv_iadd hx hb dJ4_addAll_2_166 k)) ?_
          refine rk_put C H.2.2.1 (hc_J4 H) (k := 1) (Nat.le_of_ble_eq_true rfl) in_J4 (ty0 := tyJ4) tyJ4_ok nmJ4 q225 (fun _ h => h) (Or.inl rfl) rfl rfl dJ4_addAll_2_167 ?_
          refine rk_of (fun _ _ _ _ _ k => lr_aload_n hx hb dJ4_addAll_2_170 rfl (lv_at hl 0 rfl) (lv_dup hx hb dJ4_addAll_2_171 (va_rf_cat _) k)) ?_
          refine rk_get zm_rdI_eq C (hc_J4 H) (k := 0) (Nat.le_of_ble_eq_true rfl) in_J4 q188 (u_same (C.2.2.2.1 _ q184)) dJ4_addAll_2_172 (fun v172 => ?_)
          refine rk_of (fun _ _ _ _ _ k => lv_iconst (v := 1) hx hb dJ4_addAll_2_175 rfl (lv_iadd hx hb dJ4_addAll_2_176 k)) ?_
          refine rk_put C H.2.2.1 (hc_J4 H) (k := 0) (Nat.le_of_ble_eq_true rfl) in_J4 (ty0 := tyJ4) tyJ4_ok nmJ4 q188 (u_same (C.2.2.2.1 _ q184)) (Or.inl rfl) rfl rfl dJ4_addAll_2_177 ?_
          refine rk_of (fun _ _ _ _ _ k => lv_iconst (v := 1) hx hb dJ4_addAll_2_180 rfl k) ?_
          exact rk_top (rf_iret C rfl dJ4_addAll_2_181)
        · refine rk_ite (fun _ _ _ _ _ k1 k2 => lr_ifnonnull (tgt := 145) hx hb dJ4_addAll_2_133 (by decide) k2 k1) (fun c_133 => ?_) (fun c_133 => ?_)
          · refine rk_of (fun _ _ _ _ _ k => lr_aload_n hx hb dJ4_addAll_2_136 rfl (lv_at hl 0 rfl) (lr_aload hx hb dJ4_addAll_2_137 (lv_at hl 3 rfl) k)) ?_
            refine rk_put C H.2.2.1 (hc_J4 H) (k := 3) (Nat.le_of_ble_eq_true rfl) in_J4 (ty0 := tyJ4) tyJ4_ok nmJ4 q228 (fun _ h => h) (Or.inl rfl) (zn_R rfl _) (zp_R rfl _) dJ4_addAll_2_139 ?_
            refine rk_of (fun _ _ _ _ _ k => lv_goto (tgt := 159) hx hb dJ4_addAll_2_142 (by decide) k) ?_
            exact hJ159 () ls (lv_sub hl [0, 1] rfl)
          · refine rk_of (fun _ _ _ _ _ k => lr_aload hx hb dJ4_addAll_2_145 (lv_at hl 3 rfl) (lr_aload hx hb dJ4_addAll_2_147 (lv_at hl 2 rfl) k)) ?_
            refine rk_put C H.2.2.1 (hc_J18 H) (k := 1) (Nat.le_of_ble_eq_true rfl) in_J18 (ty0 := tyJ18) tyJ18_ok nmJ18 q1252 (fun _ h => h) (Or.inl rfl) (zn_R rfl _) (zp_R rfl _) dJ4_addAll_2_149 ?_
            refine rk_of (fun _ _ _ _ _ k => lr_aload hx hb dJ4_addAll_2_152 (lv_at hl 2 rfl) (lr_aload hx hb dJ4_addAll_2_154 (lv_at hl 3 rfl) k)) ?_
            refine rk_put C H.2.2.1 (hc_J18 H) (k := 2) (Nat.le_of_ble_eq_true rfl) in_J18 (ty0 := tyJ18) tyJ18_ok nmJ18 q1254 (fun _ h => h) (Or.inl rfl) (zn_R rfl _) (zp_R rfl _) dJ4_addAll_2_156 ?_
            exact hJ159 () ls (lv_sub hl [0, 1] rfl)
      · exact rf_J4_addAll_2_68 H C hX a0 v13 b57.2 v6 v62 zm_N b57.1 0 _ ls (lv_sub hl [3, 4, 6, 2, 1, 5, 0] rfl) hJ131
    · refine rk_ite (fun _ _ _ _ _ k1 k2 => lv_icmp_ne (tgt := 43) hx hb dJ4_addAll_2_28 (by decide) k2 k1) (fun c_28 => ?_) (fun c_28 => ?_)
      · refine rk_ofs (fun _ _ _ _ _ k => lr_null hx hb dJ4_addAll_2_31 (lr_astore hx hb dJ4_addAll_2_32 hl (Nat.le_of_ble_eq_true rfl) [0, 1, 2] rfl ⟨trivial, ⟨trivial, ⟨trivial, trivial⟩⟩⟩ k)) (fun ls hl => ?_)
        refine rk_of (fun _ _ _ _ _ k => lr_aload_n hx hb dJ4_addAll_2_34 rfl (lv_at hl 3 rfl) k) ?_
        refine rk_get zm_rdR_eq C (hc_J4 H) (k := 3) (Nat.le_of_ble_eq_true rfl) in_J4 q228 (fun _ h => h) dJ4_addAll_2_35 (fun v35 => ?_)
        refine rk_ofs (fun _ _ _ _ _ k => lr_astore hx hb dJ4_addAll_2_38 hl (Nat.le_of_ble_eq_true rfl) [0, 1, 2, 3] rfl ⟨trivial, ⟨rfl, ⟨trivial, ⟨trivial, trivial⟩⟩⟩⟩ k) (fun ls hl => ?_)
        refine rk_of (fun _ _ _ _ _ k => lv_goto (tgt := 57) hx hb dJ4_addAll_2_40 (by decide) k) ?_
        exact hJ57 (v35, none) ls (lv_sub hl [4, 3, 2, 0, 1] rfl)
      · refine rk_of (fun _ _ _ _ _ k => lr_aload_n hx hb dJ4_addAll_2_43 rfl (lv_at hl 2 rfl) (lv_iload_n hx hb dJ4_addAll_2_44 rfl (lv_at hl 3 rfl) k)) ?_
        refine rk_callR hX (cl_V (rest := []) (av := [.int a1]) C (hc_J4 H) (ct_J4_node H a0 a1) (lw_V q870 q712 q713 q107 q714) ⟨rfl, hd_J4_node⟩ ⟨(Nat.le_of_ble_eq_true rfl), (Nat.le_of_ble_eq_true rfl)⟩ rfl hl.1 rfl (zw_le zw_nil (Nat.le_of_ble_eq_true rfl)) dJ4_addAll_2_45) (fun v45 => ?_)
        refine rk_ofs (fun _ _ _ _ _ k => lr_astore hx hb dJ4_addAll_2_48 hl (Nat.le_of_ble_eq_true rfl) [0, 1, 2] rfl ⟨trivial, ⟨trivial, ⟨trivial, trivial⟩⟩⟩ k) (fun ls hl => ?_)
        refine rk_of (fun _ _ _ _ _ k => lr_aload hx hb dJ4_addAll_2_50 (lv_at hl 0 rfl) k) ?_
        refine rk_get zm_rdR_eq C (hc_J18 H) (k := 2) (Nat.le_of_ble_eq_true rfl) in_J18 q1254 (fun _ h => h) dJ4_addAll_2_52 (fun v52 => ?_)
        refine rk_ofs (fun _ _ _ _ _ k => lr_astore hx hb dJ4_addAll_2_55 hl (Nat.le_of_ble_eq_true rfl) [0, 1, 2, 3] rfl ⟨trivial, ⟨rfl, ⟨trivial, ⟨trivial, trivial⟩⟩⟩⟩ k) (fun ls hl => ?_)
        exact hJ57 (v52, v45) ls (lv_sub hl [4, 3, 2, 0, 1] rfl)
theorem hd_J4_addAll : yJ4_addAll.cls ≠ "java/lang/invoke/MethodHandle" ∧ yJ4_addAll.cls ≠ "java/lang/invoke/VarHandle" ∧ (parseMethodDescriptor yJ4_addAll.desc).map (fun d => d.parameters.length) = some 1 := by decide +kernel
noncomputable def fn_J4_addAll (K : zm_K) (a0 : zm_R) (a1 : zm_R) : zm_M Int32 :=
  zm_bnd (zm_getI a0 1 1) fun v2 =>
  zm_bnd (zm_bnd (zm_is a0 1) fun _ => fn_J4_addAll_2 K a0 v2 a1) fun v6 =>
  zm_bnd (zm_grd (v6 = 0 ∨ v6 = 1)) fun _ =>
  zm_ret v6
theorem ct_J4_addAll {l : Launch} {Ω : zm_W} {K : zm_K} (H : zm_H Ω K) (a0 : zm_R) (a1 : zm_R) : zm_Ct l Ω yJ4_addAll (ws_ yJ4_addAll cJ4_addAll 2 (Option.some Jvm.ClassFile.FieldType.boolean)) 10 265 [va_rf a0, va_rf a1] zm_tvI (fn_J4_addAll K a0 a1) := by
  refine zm_ct H.1 (by decide +kernel) (zl_le (zl_R (zl_R zl_nil)) (Nat.le_of_ble_eq_true rfl)) ?_
  intro p e R s m args below meth c n0 k0 C hX ls hl
  have hx := C.1
  have hb := C.2.1
  simp only [zg_R, zg_nil] at hl
  have hl : lv_has ls 2 [(0, va_rf a0), (1, va_rf a1)] := hl
  refine rk_rf ?_
  unfold fn_J4_addAll
  refine rk_of (fun _ _ _ _ _ k => lr_aload_n hx hb dJ4_addAll_0 rfl (lv_at hl 0 rfl) (lr_aload_n hx hb dJ4_addAll_1 rfl (lv_at hl 0 rfl) k)) ?_
  refine rk_get zm_rdI_eq C (hc_J4 H) (k := 1) (Nat.le_of_ble_eq_true rfl) in_J4 q225 (fun _ h => h) dJ4_addAll_2 (fun v2 => ?_)
  refine rk_of (fun _ _ _ _ _ k => lr_aload_n hx hb dJ4_addAll_5 rfl (lv_at hl 1 rfl) k) ?_
  refine rk_callI hX (cl_V (rest := []) (av := [.int v2, va_rf a1]) C (hc_J4 H) (ct_J4_addAll_2 H a0 v2 a1) (lw_V q1304 q1305 q1306 q107 q1307) ⟨rfl, hd_J4_addAll_2⟩ ⟨(Nat.le_of_ble_eq_true rfl), (Nat.le_of_ble_eq_true rfl)⟩ rfl hl.1 rfl (zw_le zw_nil (Nat.le_of_ble_eq_true rfl)) dJ4_addAll_6) (fun v6 => ?_)
  refine rk_grd (fun hg_9 => ?_)
  exact rk_top (rf_iret C (zn_Z hg_9) dJ4_addAll_9)
theorem hd_J22_init : yJ22_init.cls ≠ "java/lang/invoke/MethodHandle" ∧ yJ22_init.cls ≠ "java/lang/invoke/VarHandle" ∧ (parseMethodDescriptor yJ22_init.desc).map (fun d => d.parameters.length) = some 1 := by decide +kernel
noncomputable def fn_J22_init (K : zm_K) (a0 : zm_R) (a1 : zm_R) : zm_M Unit :=
  zm_bnd (zm_putF K a0 9 3 (va_rf a1)) fun _ =>
  zm_bnd (zm_grd (a0 ≠ none)) fun _ =>
  zm_bnd (zm_putF K a0 9 1 (.int (-1))) fun _ =>
  zm_bnd (zm_getR a0 9 3) fun v16 =>
  zm_bnd (zm_getI v16 0 0) fun v19 =>
  zm_bnd (zm_putF K a0 9 2 (.int v19)) fun _ =>
  zm_ret ()
theorem ct_J22_init {l : Launch} {Ω : zm_W} {K : zm_K} (H : zm_H Ω K) (a0 : zm_R) (a1 : zm_R) : zm_Ct l Ω yJ22_init (ws_ yJ22_init cJ22_init 2 (Option.none : Option Jvm.ClassFile.FieldType)) 2 84 [va_rf a0, va_rf a1] zm_tvV (fn_J22_init K a0 a1) := by
  refine zm_ct H.1 (by decide +kernel) (zl_le (zl_R (zl_R zl_nil)) (Nat.le_of_ble_eq_true rfl)) ?_
  intro p e R s m args below meth c n0 k0 C hX ls hl
  have hx := C.1
  have hb := C.2.1
  simp only [zg_R, zg_nil] at hl
  have hl : lv_has ls 2 [(0, va_rf a0), (1, va_rf a1)] := hl
  refine rk_rf ?_
  unfold fn_J22_init
  refine rk_of (fun _ _ _ _ _ k => lr_aload_n hx hb dJ22_init_0 rfl (lv_at hl 0 rfl) (lr_aload_n hx hb dJ22_init_1 rfl (lv_at hl 1 rfl) k)) ?_
  refine rk_put C H.2.2.1 (hc_J22 H) (k := 3) (Nat.le_of_ble_eq_true rfl) in_J22 (ty0 := tyJ22) tyJ22_ok nmJ22 q326 (fun _ h => h) (Or.inr ⟨rfl, rfl, rfl⟩) (zn_R rfl _) (zp_R rfl _) dJ22_init_2 ?_
  refine rk_of (fun _ _ _ _ _ k => lr_aload_n hx hb dJ22_init_5 rfl (lv_at hl 0 rfl) k) ?_
  refine rk_grd (fun hg_6 => ?_)
  refine rk_of (fun _ _ _ _ _ k => zo_init C hl.1 q320 q156 q157 hg_6 (Nat.le_of_ble_eq_true rfl) (zw_le12 zw_nil (Nat.le_of_ble_eq_true rfl)) dJ22_init_6 k) ?_
  refine rk_of (fun _ _ _ _ _ k => lr_aload_n hx hb dJ22_init_9 rfl (lv_at hl 0 rfl) (lv_iconst (v := (-1)) hx hb dJ22_init_10 rfl k)) ?_
  refine rk_put C H.2.2.1 (hc_J22 H) (k := 1) (Nat.le_of_ble_eq_true rfl) in_J22 (ty0 := tyJ22) tyJ22_ok nmJ22 q324 (fun _ h => h) (Or.inl rfl) rfl rfl dJ22_init_11 ?_
  refine rk_of (fun _ _ _ _ _ k => lr_aload_n hx hb dJ22_init_14 rfl (lv_at hl 0 rfl) (lr_aload_n hx hb dJ22_init_15 rfl (lv_at hl 0 rfl) k)) ?_
  refine rk_get zm_rdR_eq C (hc_J22 H) (k := 3) (Nat.le_of_ble_eq_true rfl) in_J22 q326 (fun _ h => h) dJ22_init_16 (fun v16 => ?_)
  refine rk_get zm_rdI_eq C (hc_J2 H) (k := 0) (Nat.le_of_ble_eq_true rfl) in_J2 q185 (u_same (C.2.2.2.1 _ q186)) dJ22_init_19 (fun v19 => ?_)
  refine rk_put C H.2.2.1 (hc_J22 H) (k := 2) (Nat.le_of_ble_eq_true rfl) in_J22 (ty0 := tyJ22) tyJ22_ok nmJ22 q325 (fun _ h => h) (Or.inl rfl) rfl rfl dJ22_init_22 ?_
  exact rk_top (rf_vret C dJ22_init_25)
theorem hd_J2_iterator : yJ2_iterator.cls ≠ "java/lang/invoke/MethodHandle" ∧ yJ2_iterator.cls ≠ "java/lang/invoke/VarHandle" ∧ (parseMethodDescriptor yJ2_iterator.desc).map (fun d => d.parameters.length) = some 0 := by decide +kernel
noncomputable def fn_J2_iterator (K : zm_K) (a0 : zm_R) : zm_M zm_R :=
  zm_bnd (zm_new 9 [.int 0, .int 0, .int 0, .null]) fun v0 =>
  zm_bnd (fn_J22_init K (some v0) a0) fun _ =>
  zm_ret (some v0)
theorem ct_J2_iterator {l : Launch} {Ω : zm_W} {K : zm_K} (H : zm_H Ω K) (a0 : zm_R) : zm_Ct l Ω yJ2_iterator (ws_ yJ2_iterator cJ2_iterator 1 (Option.some (Jvm.ClassFile.FieldType.object "java/util/Iterator"))) 3 105 [va_rf a0] zm_tvR (fn_J2_iterator K a0) := by
  refine zm_ct H.1 (by decide +kernel) (zl_le (zl_R zl_nil) (Nat.le_of_ble_eq_true rfl)) ?_
  intro p e R s m args below meth c n0 k0 C hX ls hl
  have hx := C.1
  have hb := C.2.1
  simp only [zg_R, zg_nil] at hl
  have hl : lv_has ls 1 [(0, va_rf a0)] := hl
  refine rk_rf ?_
  unfold fn_J2_iterator
  refine rk_new C (hc_J22 H) in_J22 tyJ22_ok q315 q316 q129 (fs := [.int 0, .int 0, .int 0, .null]) rfl (fun j hj => zdf_J22 j hj) dJ2_iterator_0 (fun v0 => ?_)
  refine rk_of (fun _ _ _ _ _ k => lv_dup hx hb dJ2_iterator_3 (va_rf_cat _) (lr_aload_n hx hb dJ2_iterator_4 rfl (lv_at hl 0 rfl) k)) ?_
  refine rk_callV hX (cl_I (rest := [va_rf (some v0)]) C (ct_J22_init H (some v0) a0) (lw_meth q319) q129 q317 q318 rfl hd_J22_init ⟨(Nat.le_of_ble_eq_true rfl), (Nat.le_of_ble_eq_true rfl)⟩ rfl hl.1 rfl (zw_le (zw_R zw_nil) (Nat.le_of_ble_eq_true rfl)) dJ2_iterator_5) (fun _ => ?_)
  exact rk_top (rf_aret C (Or.inl ⟨_, rfl⟩) dJ2_iterator_8)
theorem hd_J2_rangeCheckForAdd : yJ2_rangeCheckForAdd.cls ≠ "java/lang/invoke/MethodHandle" ∧ yJ2_rangeCheckForAdd.cls ≠ "java/lang/invoke/VarHandle" ∧ (parseMethodDescriptor yJ2_rangeCheckForAdd.desc).map (fun d => d.parameters.length) = some 1 := by decide +kernel
noncomputable def fn_J2_rangeCheckForAdd (K : zm_K) (a0 : zm_R) (a1 : Int32) : zm_M Unit :=
  zm_bnd (zm_getI a0 0 2) fun v2 =>
  zm_bnx (β := Unit) (
      if v2 < a1 then
        zm_ret (Sum.inl ())
      else
        if 0 ≤ a1 then
          zm_ret (Sum.inr ())
        else
          zm_ret (Sum.inl ())
    ) fun (_ : Unit) =>
  zm_bnd (zm_new 8 [.null, .null, .null, .null, .null, .int 0]) fun v12 =>
  zm_fl
theorem ct_J2_rangeCheckForAdd {l : Launch} {Ω : zm_W} {K : zm_K} (H : zm_H Ω K) (a0 : zm_R) (a1 : Int32) : zm_Ct l Ω yJ2_rangeCheckForAdd (ws_ yJ2_rangeCheckForAdd cJ2_rangeCheckForAdd 2 (Option.none : Option Jvm.ClassFile.FieldType)) 8 212 [va_rf a0, .int a1] zm_tvV (fn_J2_rangeCheckForAdd K a0 a1) := by
  refine zm_ct H.1 (by decide +kernel) (zl_le (zl_R (zl_I zl_nil)) (Nat.le_of_ble_eq_true rfl)) ?_
  intro p e R s m args below meth c n0 k0 C hX ls hl
  have hx := C.1
  have hb := C.2.1
  simp only [zg_I, zg_R, zg_nil] at hl
  have hl : lv_has ls 2 [(0, va_rf a0), (1, .int a1)] := hl
  refine rk_rf ?_
  unfold fn_J2_rangeCheckForAdd
  refine rk_of (fun _ _ _ _ _ k => lv_iload_n hx hb dJ2_rangeCheckForAdd_0 rfl (lv_at hl 1 rfl) (lr_aload_n hx hb dJ2_rangeCheckForAdd_1 rfl (lv_at hl 0 rfl) k)) ?_
  refine rk_get zm_rdI_eq C (hc_J2 H) (k := 2) (Nat.le_of_ble_eq_true rfl) in_J2 q181 (fun _ h => h) dJ2_rangeCheckForAdd_2 (fun v2 => ?_)
  refine rk_joinx (β := Unit) (fun (b12 : Unit) ls => lv_has ls 2 [(0, va_rf a0), (1, .int a1)]) (fun (b12 : Unit) ls => F0 m 12 ls []) (fun b12 ls hl => ?_) (fun hJ12 => ?_)
  · refine rk_new C (hc_J19 H) in_J19 tyJ19_ok q358 q359 q126 (fs := [.null, .null, .null, .null, .null, .int 0]) rfl (fun j hj => zdf_J19 j hj) dJ2_rangeCheckForAdd_12 (fun v12 => ?_)
    refine rk_of (fun _ _ _ _ _ k => lv_dup hx hb dJ2_rangeCheckForAdd_15 (va_rf_cat _) (lr_aload_n hx hb dJ2_rangeCheckForAdd_16 rfl (lv_at hl 0 rfl) (lv_iload_n hx hb dJ2_rangeCheckForAdd_17 rfl (lv_at hl 1 rfl) k))) ?_
    exact rk_fl
  · refine rk_ite (fun _ _ _ _ _ k1 k2 => lv_icmp_gt (tgt := 12) hx hb dJ2_rangeCheckForAdd_5 (by decide) k1 k2) (fun c_5 => ?_) (fun c_5 => ?_)
    · exact hJ12 () ls (lv_sub hl [0, 1] rfl)
    · refine rk_ite (fun _ _ _ _ _ k1 k2 => lv_iload_n hx hb dJ2_rangeCheckForAdd_8 rfl (lv_at hl 1 rfl) (lv_if_ge (tgt := 25) hx hb dJ2_rangeCheckForAdd_9 (by decide) k1 k2)) (fun c_9 => ?_) (fun c_9 => ?_)
      · refine rk_inr ?_
        exact rk_top (rf_vret C dJ2_rangeCheckForAdd_25)
      · exact hJ12 () ls (lv_sub hl [0, 1] rfl)
theorem hd_J2_listIterator : yJ2_listIterator.cls ≠ "java/lang/invoke/MethodHandle" ∧ yJ2_listIterator.cls ≠ "java/lang/invoke/VarHandle" ∧ (parseMethodDescriptor yJ2_listIterator.desc).map (fun d => d.parameters.length) = some 1 := by decide +kernel
noncomputable def fn_J2_listIterator (K : zm_K) (a0 : zm_R) (a1 : Int32) : zm_M zm_R :=
  zm_bnd (zm_bnd (zm_is a0 0) fun _ => fn_J2_rangeCheckForAdd K a0 a1) fun _ =>
  zm_fl
theorem ct_J2_listIterator {l : Launch} {Ω : zm_W} {K : zm_K} (H : zm_H Ω K) (a0 : zm_R) (a1 : Int32) : zm_Ct l Ω yJ2_listIterator (ws_ yJ2_listIterator cJ2_listIterator 2 (Option.some (Jvm.ClassFile.FieldType.object "java/util/ListIterator"))) 9 233 [va_rf a0, .int a1] zm_tvR (fn_J2_listIterator K a0 a1) := by
  refine zm_ct H.1 (by decide +kernel) (zl_le (zl_R (zl_I zl_nil)) (Nat.le_of_ble_eq_true rfl)) ?_
  intro p e R s m args below meth c n0 k0 C hX ls hl
  have hx := C.1
  have hb := C.2.1
  simp only [zg_I, zg_R, zg_nil] at hl
  have hl : lv_has ls 2 [(0, va_rf a0), (1, .int a1)] := hl
  refine rk_rf ?_
  unfold fn_J2_listIterator
  refine rk_of (fun _ _ _ _ _ k => lr_aload_n hx hb dJ2_listIterator_0 rfl (lv_at hl 0 rfl) (lv_iload_n hx hb dJ2_listIterator_1 rfl (lv_at hl 1 rfl) k)) ?_
  refine rk_callV hX (cl_V (rest := []) (av := [.int a1]) C (hc_J2 H) (ct_J2_rangeCheckForAdd H a0 a1) (lw_V q354 q356 qs0 q105 q357) ⟨rfl, hd_J2_rangeCheckForAdd⟩ ⟨(Nat.le_of_ble_eq_true rfl), (Nat.le_of_ble_eq_true rfl)⟩ rfl hl.1 rfl (zw_le zw_nil (Nat.le_of_ble_eq_true rfl)) dJ2_listIterator_2) (fun _ => ?_)
  exact rk_fl
theorem hd_J25_init : yJ25_init.cls ≠ "java/lang/invoke/MethodHandle" ∧ yJ25_init.cls ≠ "java/lang/invoke/VarHandle" ∧ (parseMethodDescriptor yJ25_init.desc).map (fun d => d.parameters.length) = some 2 := by decide +kernel
noncomputable def fn_J25_init (K : zm_K) (a0 : zm_R) (a1 : zm_R) (a2 : Int32) : zm_M Unit :=
  zm_bnd (zm_putF K a0 11 4 (va_rf a1)) fun _ =>
  zm_bnd (zm_grd (a0 ≠ none)) fun _ =>
  zm_bnd (zm_getR a0 11 4) fun v11 =>
  zm_bnd (zm_getI v11 1 0) fun v14 =>
  zm_bnd (zm_putF K a0 11 3 (.int v14)) fun _ =>
  zm_bnd (zm_getI a1 1 1) fun v23 =>
  zm_bnd (α := zm_R) (
      if a2 = v23 then
        zm_ret none
      else
        zm_bnd (zm_bnd (zm_is a1 1) fun _ => fn_J4_node K a1 a2) fun v35 =>
        zm_ret v35
    ) fun b38 =>
  zm_bnd (zm_putF K a0 11 1 (va_rf b38)) fun _ =>
  zm_bnd (zm_putF K a0 11 2 (.int a2)) fun _ =>
  zm_ret ()
theorem ct_J25_init {l : Launch} {Ω : zm_W} {K : zm_K} (H : zm_H Ω K) (a0 : zm_R) (a1 : zm_R) (a2 : Int32) : zm_Ct l Ω yJ25_init (ws_ yJ25_init cJ25_init 3 (Option.none : Option Jvm.ClassFile.FieldType)) 2 87 [va_rf a0, va_rf a1, .int a2] zm_tvV (fn_J25_init K a0 a1 a2) := by
  refine zm_ct H.1 (by decide +kernel) (zl_le (zl_R (zl_R (zl_I zl_nil))) (Nat.le_of_ble_eq_true rfl)) ?_
  intro p e R s m args below meth c n0 k0 C hX ls hl
  have hx := C.1
  have hb := C.2.1
  simp only [zg_I, zg_R, zg_nil] at hl
  have hl : lv_has ls 3 [(0, va_rf a0), (1, va_rf a1), (2, .int a2)] := hl
  refine rk_rf ?_
  unfold fn_J25_init
  refine rk_of (fun _ _ _ _ _ k => lr_aload_n hx hb dJ25_init_0 rfl (lv_at hl 0 rfl) (lr_aload_n hx hb dJ25_init_1 rfl (lv_at hl 1 rfl) k)) ?_
  refine rk_put C H.2.2.1 (hc_J25 H) (k := 4) (Nat.le_of_ble_eq_true rfl) in_J25 (ty0 := tyJ25) tyJ25_ok nmJ25 q719 (fun _ h => h) (Or.inr ⟨rfl, rfl, rfl⟩) (zn_R rfl _) (zp_R rfl _) dJ25_init_2 ?_
  refine rk_of (fun _ _ _ _ _ k => lr_aload_n hx hb dJ25_init_5 rfl (lv_at hl 0 rfl) k) ?_
  refine rk_grd (fun hg_6 => ?_)
  refine rk_of (fun _ _ _ _ _ k => zo_init C hl.1 q710 q156 q157 hg_6 (Nat.le_of_ble_eq_true rfl) (zw_le12 zw_nil (Nat.le_of_ble_eq_true rfl)) dJ25_init_6 k) ?_
  refine rk_of (fun _ _ _ _ _ k => lr_aload_n hx hb dJ25_init_9 rfl (lv_at hl 0 rfl) (lr_aload_n hx hb dJ25_init_10 rfl (lv_at hl 0 rfl) k)) ?_
  refine rk_get zm_rdR_eq C (hc_J25 H) (k := 4) (Nat.le_of_ble_eq_true rfl) in_J25 q719 (fun _ h => h) dJ25_init_11 (fun v11 => ?_)
  refine rk_get zm_rdI_eq C (hc_J4 H) (k := 0) (Nat.le_of_ble_eq_true rfl) in_J4 q183 (u_same (C.2.2.2.1 _ q184)) dJ25_init_14 (fun v14 => ?_)
  refine rk_put C H.2.2.1 (hc_J25 H) (k := 3) (Nat.le_of_ble_eq_true rfl) in_J25 (ty0 := tyJ25) tyJ25_ok nmJ25 q718 (fun _ h => h) (Or.inl rfl) rfl rfl dJ25_init_17 ?_
  refine rk_of (fun _ _ _ _ _ k => lr_aload_n hx hb dJ25_init_20 rfl (lv_at hl 0 rfl) (lv_iload_n hx hb dJ25_init_21 rfl (lv_at hl 2 rfl) (lr_aload_n hx hb dJ25_init_22 rfl (lv_at hl 1 rfl) k))) ?_
  refine rk_get zm_rdI_eq C (hc_J4 H) (k := 1) (Nat.le_of_ble_eq_true rfl) in_J4 q226 (fun _ h => h) dJ25_init_23 (fun v23 => ?_)
  refine rk_join (β := zm_R) (fun (b38 : zm_R) ls => lv_has ls 3 [(0, va_rf a0), (2, .int a2)]) (fun (b38 : zm_R) ls => F0 m 38 ls [va_rf b38, va_rf a0]) (fun b38 ls hl => ?_) (fun hJ38 => ?_)
  · refine rk_put C H.2.2.1 (hc_J25 H) (k := 1) (Nat.le_of_ble_eq_true rfl) in_J25 (ty0 := tyJ25) tyJ25_ok nmJ25 q716 (fun _ h => h) (Or.inl rfl) (zn_R rfl _) (zp_R rfl _) dJ25_init_38 ?_
    refine rk_of (fun _ _ _ _ _ k => lr_aload_n hx hb dJ25_init_41 rfl (lv_at hl 0 rfl) (lv_iload_n hx hb dJ25_init_42 rfl (lv_at hl 1 rfl) k)) ?_
    refine rk_put C H.2.2.1 (hc_J25 H) (k := 2) (Nat.le_of_ble_eq_true rfl) in_J25 (ty0 := tyJ25) tyJ25_ok nmJ25 q717 (fun _ h => h) (Or.inl rfl) rfl rfl dJ25_init_43 ?_
    exact rk_top (rf_vret C dJ25_init_46)
  · refine rk_ite (fun _ _ _ _ _ k1 k2 => lv_icmp_ne (tgt := 33) hx hb dJ25_init_26 (by decide) k2 k1) (fun c_26 => ?_) (fun c_26 => ?_)
    · refine rk_of (fun _ _ _ _ _ k => lr_null hx hb dJ25_init_29 (lv_goto (tgt := 38) hx hb dJ25_init_30 (by decide) k)) ?_
      exact hJ38 none ls (lv_sub hl [0, 2] rfl)
    · refine rk_of (fun _ _ _ _ _ k => lr_aload_n hx hb dJ25_init_33 rfl (lv_at hl 1 rfl) (lv_iload_n hx hb dJ25_init_34 rfl (lv_at hl 2 rfl) k)) ?_
      refine rk_callR hX (cl_V (rest := [va_rf a0]) (av := [.int a2]) C (hc_J4 H) (ct_J4_node H a1 a2) (lw_V q711 q712 q713 q107 q714) ⟨rfl, hd_J4_node⟩ ⟨(Nat.le_of_ble_eq_true rfl), (Nat.le_of_ble_eq_true rfl)⟩ rfl hl.1 rfl (zw_le (zw_R zw_nil) (Nat.le_of_ble_eq_true rfl)) dJ25_init_35) (fun v35 => ?_)
      exact hJ38 v35 ls (lv_sub hl [0, 2] rfl)
theorem hd_J4_listIterator : yJ4_listIterator.cls ≠ "java/lang/invoke/MethodHandle" ∧ yJ4_listIterator.cls ≠ "java/lang/invoke/VarHandle" ∧ (parseMethodDescriptor yJ4_listIterator.desc).map (fun d => d.parameters.length) = some 1 := by decide +kernel
noncomputable def fn_J4_listIterator (K : zm_K) (a0 : zm_R) (a1 : Int32) : zm_M zm_R :=
  zm_bnd (zm_bnd (zm_is a0 1) fun _ => fn_J4_checkPositionIndex K a0 a1) fun _ =>
  zm_bnd (zm_new 11 [.null, .null, .int 0, .int 0, .null]) fun v5 =>
  zm_bnd (fn_J25_init K (some v5) a0 a1) fun _ =>
  zm_ret (some v5)
theorem ct_J4_listIterator {l : Launch} {Ω : zm_W} {K : zm_K} (H : zm_H Ω K) (a0 : zm_R) (a1 : Int32) : zm_Ct l Ω yJ4_listIterator (ws_ yJ4_listIterator cJ4_listIterator 2 (Option.some (Jvm.ClassFile.FieldType.object "java/util/ListIterator"))) 9 233 [va_rf a0, .int a1] zm_tvR (fn_J4_listIterator K a0 a1) := by
  refine zm_ct H.1 (by decide +kernel) (zl_le (zl_R (zl_I zl_nil)) (Nat.le_of_ble_eq_true rfl)) ?_
  intro p e R s m args below meth c n0 k0 C hX ls hl
  have hx := C.1
  have hb := C.2.1
  simp only [zg_I, zg_R, zg_nil] at hl
  have hl : lv_has ls 2 [(0, va_rf a0), (1, .int a1)] := hl
  refine rk_rf ?_
  unfold fn_J4_listIterator
  refine rk_of (fun _ _ _ _ _ k => lr_aload_n hx hb dJ4_listIterator_0 rfl (lv_at hl 0 rfl) (lv_iload_n hx hb dJ4_listIterator_1 rfl (lv_at hl 1 rfl) k)) ?_
  refine rk_callV hX (cl_V (rest := []) (av := [.int a1]) C (hc_J4 H) (ct_J4_checkPositionIndex H a0 a1) (lw_V q684 q686 qs3 q107 q687) ⟨rfl, hd_J4_checkPositionIndex⟩ ⟨(Nat.le_of_ble_eq_true rfl), (Nat.le_of_ble_eq_true rfl)⟩ rfl hl.1 rfl (zw_le zw_nil (Nat.le_of_ble_eq_true rfl)) dJ4_listIterator_2) (fun _ => ?_)
  refine rk_new C (hc_J25 H) in_J25 tyJ25_ok q705 q706 q133 (fs := [.null, .null, .int 0, .int 0, .null]) rfl (fun j hj => zdf_J25 j hj) dJ4_listIterator_5 (fun v5 => ?_)
  refine rk_of (fun _ _ _ _ _ k => lv_dup hx hb dJ4_listIterator_8 (va_rf_cat _) (lr_aload_n hx hb dJ4_listIterator_9 rfl (lv_at hl 0 rfl) (lv_iload_n hx hb dJ4_listIterator_10 rfl (lv_at hl 1 rfl) k))) ?_
  refine rk_callV hX (cl_I (rest := [va_rf (some v5)]) C (ct_J25_init H (some v5) a0 a1) (lw_meth q709) q133 q707 q708 rfl hd_J25_init ⟨(Nat.le_of_ble_eq_true rfl), (Nat.le_of_ble_eq_true rfl)⟩ rfl hl.1 rfl (zw_le (zw_R zw_nil) (Nat.le_of_ble_eq_true rfl)) dJ4_listIterator_11) (fun _ => ?_)
  exact rk_top (rf_aret C (Or.inl ⟨_, rfl⟩) dJ4_listIterator_14)
theorem hd_J1_listIterator : yJ1_listIterator.cls ≠ "java/lang/invoke/MethodHandle" ∧ yJ1_listIterator.cls ≠ "java/lang/invoke/VarHandle" ∧ (parseMethodDescriptor yJ1_listIterator.desc).map (fun d => d.parameters.length) = some 0 := by decide +kernel
noncomputable def fn_J1_listIterator (K : zm_K) (a0 : zm_R) : zm_M zm_R :=
  zm_bnd (zm_bnd (zm_cls a0) fun ci => if ci = 0 then fn_J2_listIterator K a0 0 else if ci = 1 then fn_J4_listIterator K a0 0 else zm_fl) fun v2 =>
  zm_ret v2
theorem ct_J1_listIterator {l : Launch} {Ω : zm_W} {K : zm_K} (H : zm_H Ω K) (a0 : zm_R) : zm_Ct l Ω yJ1_listIterator (ws_ yJ1_listIterator cJ1_listIterator 1 (Option.some (Jvm.ClassFile.FieldType.object "java/util/ListIterator"))) 10 254 [va_rf a0] zm_tvR (fn_J1_listIterator K a0) := by
  refine zm_ct H.1 (by decide +kernel) (zl_le (zl_R zl_nil) (Nat.le_of_ble_eq_true rfl)) ?_
  intro p e R s m args below meth c n0 k0 C hX ls hl
  have hx := C.1
  have hb := C.2.1
  simp only [zg_R, zg_nil] at hl
  have hl : lv_has ls 1 [(0, va_rf a0)] := hl
  refine rk_rf ?_
  unfold fn_J1_listIterator
  refine rk_of (fun _ _ _ _ _ k => lr_aload_n hx hb dJ1_listIterator_0 rfl (lv_at hl 0 rfl) (lv_iconst (v := 0) hx hb dJ1_listIterator_1 rfl k)) ?_
  refine rk_callR hX (cl_dsp (fun ci => cl_case (cl_U (n := 1) (rest := []) (av := [.int 0]) C (hc_J2 H) (ct_J2_listIterator H a0 0) (lw_meth q353) q105 q348 (C.2.2.2.1 _ q350) (Cond.declares_spec (zn_wD H C q731)) (C.2.2.2.1 _ q351) q352 (by decide +kernel) ⟨(Nat.le_of_ble_eq_true rfl), (Nat.le_of_ble_eq_true rfl)⟩ rfl hl.1 rfl (zw_le zw_nil (Nat.le_of_ble_eq_true rfl)) dJ1_listIterator_2) (cl_case (cl_U (n := 1) (rest := []) (av := [.int 0]) C (hc_J4 H) (ct_J4_listIterator H a0 0) (lw_meth q683) q107 q348 (C.2.2.2.1 _ q350) (Cond.declares_spec (zn_wD H C q731)) (C.2.2.2.1 _ q681) q682 (by decide +kernel) ⟨(Nat.le_of_ble_eq_true rfl), (Nat.le_of_ble_eq_true rfl)⟩ rfl hl.1 rfl (zw_le zw_nil (Nat.le_of_ble_eq_true rfl)) dJ1_listIterator_2) (cl_fl)))) (fun v2 => ?_)
  exact rk_top (rf_aret C (Or.inl ⟨_, rfl⟩) dJ1_listIterator_5)
theorem hd_J3_iterator : yJ3_iterator.cls ≠ "java/lang/invoke/MethodHandle" ∧ yJ3_iterator.cls ≠ "java/lang/invoke/VarHandle" ∧ (parseMethodDescriptor yJ3_iterator.desc).map (fun d => d.parameters.length) = some 0 := by decide +kernel
noncomputable def fn_J3_iterator (K : zm_K) (a0 : zm_R) : zm_M zm_R :=
  zm_bnd (zm_bnd (zm_is a0 1) fun _ => fn_J1_listIterator K a0) fun v1 =>
  zm_ret v1
theorem ct_J3_iterator {l : Launch} {Ω : zm_W} {K : zm_K} (H : zm_H Ω K) (a0 : zm_R) : zm_Ct l Ω yJ3_iterator (ws_ yJ3_iterator cJ3_iterator 1 (Option.some (Jvm.ClassFile.FieldType.object "java/util/Iterator"))) 11 274 [va_rf a0] zm_tvR (fn_J3_iterator K a0) := by
  refine zm_ct H.1 (by decide +kernel) (zl_le (zl_R zl_nil) (Nat.le_of_ble_eq_true rfl)) ?_
  intro p e R s m args below meth c n0 k0 C hX ls hl
  have hx := C.1
  have hb := C.2.1
  simp only [zg_R, zg_nil] at hl
  have hl : lv_has ls 1 [(0, va_rf a0)] := hl
  refine rk_rf ?_
  unfold fn_J3_iterator
  refine rk_of (fun _ _ _ _ _ k => lr_aload_n hx hb dJ3_iterator_0 rfl (lv_at hl 0 rfl) k) ?_
  refine rk_callR hX (cl_U (n := 0) (rest := []) (av := []) C (hc_J4 H) (ct_J1_listIterator H a0) (lw_meth q347) q104 q342 (C.2.2.2.1 _ q343) (va_Decl.of (C.2.2.2.1 _ q346) (C.2.2.2.1 _ q347)) (C.2.2.2.1 _ q345) q346 (by decide +kernel) ⟨(Nat.le_of_ble_eq_true rfl), (Nat.le_of_ble_eq_true rfl)⟩ rfl hl.1 rfl (zw_le zw_nil (Nat.le_of_ble_eq_true rfl)) dJ3_iterator_1) (fun v1 => ?_)
  exact rk_top (rf_aret C (Or.inl ⟨_, rfl⟩) dJ3_iterator_4)
theorem hd_X10_hasNext : yX10_hasNext.cls ≠ "java/lang/invoke/MethodHandle" ∧ yX10_hasNext.cls ≠ "java/lang/invoke/VarHandle" ∧ (parseMethodDescriptor yX10_hasNext.desc).map (fun d => d.parameters.length) = some 0 := by decide +kernel
noncomputable def fn_X10_hasNext (K : zm_K) (a0 : zm_R) : zm_M Int32 :=
  zm_bnd (zm_getI a0 26 0) fun v1 =>
  if 600 ≤ v1 then
    zm_ret 0
  else
    zm_ret 1
theorem ct_X10_hasNext {l : Launch} {Ω : zm_W} {K : zm_K} (H : zm_H Ω K) (a0 : zm_R) : zm_Ct l Ω yX10_hasNext (ws_ yX10_hasNext cX10_hasNext 1 (Option.some Jvm.ClassFile.FieldType.boolean)) 1 64 [va_rf a0] zm_tvI (fn_X10_hasNext K a0) := by
  refine zm_ct H.1 (by decide +kernel) (zl_le (zl_R zl_nil) (Nat.le_of_ble_eq_true rfl)) ?_
  intro p e R s m args below meth c n0 k0 C hX ls hl
  have hx := C.1
  have hb := C.2.1
  simp only [zg_R, zg_nil] at hl
  have hl : lv_has ls 1 [(0, va_rf a0)] := hl
  refine rk_rf ?_
  unfold fn_X10_hasNext
  refine rk_of (fun _ _ _ _ _ k => lr_aload_n hx hb dX10_hasNext_0 rfl (lv_at hl 0 rfl) k) ?_
  refine rk_get zm_rdI_eq C (hc_X10 H) (k := 0) (Nat.le_of_ble_eq_true rfl) in_X10 q1817 (fun _ h => h) dX10_hasNext_1 (fun v1 => ?_)
  refine rk_ite (fun _ _ _ _ _ k1 k2 => lv_sipush (v := 600) hx hb dX10_hasNext_4 rfl (lv_icmp_ge (tgt := 14) hx hb dX10_hasNext_7 (by decide) k1 k2)) (fun c_7 => ?_) (fun c_7 => ?_)
  · refine rk_of (fun _ _ _ _ _ k => lv_iconst (v := 0) hx hb dX10_hasNext_14 rfl k) ?_
    exact rk_top (rf_iret C rfl dX10_hasNext_15)
  · refine rk_of (fun _ _ _ _ _ k => lv_iconst (v := 1) hx hb dX10_hasNext_10 rfl (lv_goto (tgt := 15) hx hb dX10_hasNext_11 (by decide) k)) ?_
    exact rk_top (rf_iret C rfl dX10_hasNext_15)
theorem hd_J2_size : yJ2_size.cls ≠ "java/lang/invoke/MethodHandle" ∧ yJ2_size.cls ≠ "java/lang/invoke/VarHandle" ∧ (parseMethodDescriptor yJ2_size.desc).map (fun d => d.parameters.length) = some 0 := by decide +kernel
noncomputable def fn_J2_size (K : zm_K) (a0 : zm_R) : zm_M Int32 :=
  zm_bnd (zm_getI a0 0 2) fun v1 =>
  zm_ret v1
theorem ct_J2_size {l : Launch} {Ω : zm_W} {K : zm_K} (H : zm_H Ω K) (a0 : zm_R) : zm_Ct l Ω yJ2_size (ws_ yJ2_size cJ2_size 1 (Option.some Jvm.ClassFile.FieldType.int)) 1 64 [va_rf a0] zm_tvI (fn_J2_size K a0) := by
  refine zm_ct H.1 (by decide +kernel) (zl_le (zl_R zl_nil) (Nat.le_of_ble_eq_true rfl)) ?_
  intro p e R s m args below meth c n0 k0 C hX ls hl
  have hx := C.1
  have hb := C.2.1
  simp only [zg_R, zg_nil] at hl
  have hl : lv_has ls 1 [(0, va_rf a0)] := hl
  refine rk_rf ?_
  unfold fn_J2_size
  refine rk_of (fun _ _ _ _ _ k => lr_aload_n hx hb dJ2_size_0 rfl (lv_at hl 0 rfl) k) ?_
  refine rk_get zm_rdI_eq C (hc_J2 H) (k := 2) (Nat.le_of_ble_eq_true rfl) in_J2 q181 (fun _ h => h) dJ2_size_1 (fun v1 => ?_)
  exact rk_top (rf_iret C rfl dJ2_size_4)
theorem hd_J4_size : yJ4_size.cls ≠ "java/lang/invoke/MethodHandle" ∧ yJ4_size.cls ≠ "java/lang/invoke/VarHandle" ∧ (parseMethodDescriptor yJ4_size.desc).map (fun d => d.parameters.length) = some 0 := by decide +kernel
noncomputable def fn_J4_size (K : zm_K) (a0 : zm_R) : zm_M Int32 :=
  zm_bnd (zm_getI a0 1 1) fun v1 =>
  zm_ret v1
theorem ct_J4_size {l : Launch} {Ω : zm_W} {K : zm_K} (H : zm_H Ω K) (a0 : zm_R) : zm_Ct l Ω yJ4_size (ws_ yJ4_size cJ4_size 1 (Option.some Jvm.ClassFile.FieldType.int)) 1 64 [va_rf a0] zm_tvI (fn_J4_size K a0) := by
  refine zm_ct H.1 (by decide +kernel) (zl_le (zl_R zl_nil) (Nat.le_of_ble_eq_true rfl)) ?_
  intro p e R s m args below meth c n0 k0 C hX ls hl
  have hx := C.1
  have hb := C.2.1
  simp only [zg_R, zg_nil] at hl
  have hl : lv_has ls 1 [(0, va_rf a0)] := hl
  refine rk_rf ?_
  unfold fn_J4_size
  refine rk_of (fun _ _ _ _ _ k => lr_aload_n hx hb dJ4_size_0 rfl (lv_at hl 0 rfl) k) ?_
  refine rk_get zm_rdI_eq C (hc_J4 H) (k := 1) (Nat.le_of_ble_eq_true rfl) in_J4 q225 (fun _ h => h) dJ4_size_1 (fun v1 => ?_)
  exact rk_top (rf_iret C rfl dJ4_size_4)
theorem hd_J22_hasNext : yJ22_hasNext.cls ≠ "java/lang/invoke/MethodHandle" ∧ yJ22_hasNext.cls ≠ "java/lang/invoke/VarHandle" ∧ (parseMethodDescriptor yJ22_hasNext.desc).map (fun d => d.parameters.length) = some 0 := by decide +kernel
noncomputable def fn_J22_hasNext (K : zm_K) (a0 : zm_R) : zm_M Int32 :=
  zm_bnd (zm_getI a0 9 0) fun v1 =>
  zm_bnd (zm_getR a0 9 3) fun v5 =>
  zm_bnd (zm_getI v5 0 2) fun v8 =>
  if v1 = v8 then
    zm_ret 0
  else
    zm_ret 1
theorem ct_J22_hasNext {l : Launch} {Ω : zm_W} {K : zm_K} (H : zm_H Ω K) (a0 : zm_R) : zm_Ct l Ω yJ22_hasNext (ws_ yJ22_hasNext cJ22_hasNext 1 (Option.some Jvm.ClassFile.FieldType.boolean)) 1 64 [va_rf a0] zm_tvI (fn_J22_hasNext K a0) := by
  refine zm_ct H.1 (by decide +kernel) (zl_le (zl_R zl_nil) (Nat.le_of_ble_eq_true rfl)) ?_
  intro p e R s m args below meth c n0 k0 C hX ls hl
  have hx := C.1
  have hb := C.2.1
  simp only [zg_R, zg_nil] at hl
  have hl : lv_has ls 1 [(0, va_rf a0)] := hl
  refine rk_rf ?_
  unfold fn_J22_hasNext
  refine rk_of (fun _ _ _ _ _ k => lr_aload_n hx hb dJ22_hasNext_0 rfl (lv_at hl 0 rfl) k) ?_
  refine rk_get zm_rdI_eq C (hc_J22 H) (k := 0) (Nat.le_of_ble_eq_true rfl) in_J22 q323 (fun _ h => h) dJ22_hasNext_1 (fun v1 => ?_)
  refine rk_of (fun _ _ _ _ _ k => lr_aload_n hx hb dJ22_hasNext_4 rfl (lv_at hl 0 rfl) k) ?_
  refine rk_get zm_rdR_eq C (hc_J22 H) (k := 3) (Nat.le_of_ble_eq_true rfl) in_J22 q326 (fun _ h => h) dJ22_hasNext_5 (fun v5 => ?_)
  refine rk_getN zm_rdI_eq C (hc_J2 H) (k := 2) (Nat.le_of_ble_eq_true rfl) in_J2 (zn_wF H C q180) (fun _ h => h) dJ22_hasNext_8 (fun v8 => ?_)
  refine rk_ite (fun _ _ _ _ _ k1 k2 => lv_icmp_eq (tgt := 18) hx hb dJ22_hasNext_11 (by decide) k1 k2) (fun c_11 => ?_) (fun c_11 => ?_)
  · refine rk_of (fun _ _ _ _ _ k => lv_iconst (v := 0) hx hb dJ22_hasNext_18 rfl k) ?_
    exact rk_top (rf_iret C rfl dJ22_hasNext_19)
  · refine rk_of (fun _ _ _ _ _ k => lv_iconst (v := 1) hx hb dJ22_hasNext_14 rfl (lv_goto (tgt := 19) hx hb dJ22_hasNext_15 (by decide) k)) ?_
    exact rk_top (rf_iret C rfl dJ22_hasNext_19)
theorem hd_J25_hasNext : yJ25_hasNext.cls ≠ "java/lang/invoke/MethodHandle" ∧ yJ25_hasNext.cls ≠ "java/lang/invoke/VarHandle" ∧ (parseMethodDescriptor yJ25_hasNext.desc).map (fun d => d.parameters.length) = some 0 := by decide +kernel
noncomputable def fn_J25_hasNext (K : zm_K) (a0 : zm_R) : zm_M Int32 :=
  zm_bnd (zm_getI a0 11 2) fun v1 =>
  zm_bnd (zm_getR a0 11 4) fun v5 =>
  zm_bnd (zm_getI v5 1 1) fun v8 =>
  if v8 ≤ v1 then
    zm_ret 0
  else
    zm_ret 1
theorem ct_J25_hasNext {l : Launch} {Ω : zm_W} {K : zm_K} (H : zm_H Ω K) (a0 : zm_R) : zm_Ct l Ω yJ25_hasNext (ws_ yJ25_hasNext cJ25_hasNext 1 (Option.some Jvm.ClassFile.FieldType.boolean)) 1 64 [va_rf a0] zm_tvI (fn_J25_hasNext K a0) := by
  refine zm_ct H.1 (by decide +kernel) (zl_le (zl_R zl_nil) (Nat.le_of_ble_eq_true rfl)) ?_
  intro p e R s m args below meth c n0 k0 C hX ls hl
  have hx := C.1
  have hb := C.2.1
  simp only [zg_R, zg_nil] at hl
  have hl : lv_has ls 1 [(0, va_rf a0)] := hl
  refine rk_rf ?_
  unfold fn_J25_hasNext
  refine rk_of (fun _ _ _ _ _ k => lr_aload_n hx hb dJ25_hasNext_0 rfl (lv_at hl 0 rfl) k) ?_
  refine rk_get zm_rdI_eq C (hc_J25 H) (k := 2) (Nat.le_of_ble_eq_true rfl) in_J25 q717 (fun _ h => h) dJ25_hasNext_1 (fun v1 => ?_)
  refine rk_of (fun _ _ _ _ _ k => lr_aload_n hx hb dJ25_hasNext_4 rfl (lv_at hl 0 rfl) k) ?_
  refine rk_get zm_rdR_eq C (hc_J25 H) (k := 4) (Nat.le_of_ble_eq_true rfl) in_J25 q719 (fun _ h => h) dJ25_hasNext_5 (fun v5 => ?_)
  refine rk_get zm_rdI_eq C (hc_J4 H) (k := 1) (Nat.le_of_ble_eq_true rfl) in_J4 q226 (fun _ h => h) dJ25_hasNext_8 (fun v8 => ?_)
  refine rk_ite (fun _ _ _ _ _ k1 k2 => lv_icmp_ge (tgt := 18) hx hb dJ25_hasNext_11 (by decide) k1 k2) (fun c_11 => ?_) (fun c_11 => ?_)
  · refine rk_of (fun _ _ _ _ _ k => lv_iconst (v := 0) hx hb dJ25_hasNext_18 rfl k) ?_
    exact rk_top (rf_iret C rfl dJ25_hasNext_19)
  · refine rk_of (fun _ _ _ _ _ k => lv_iconst (v := 1) hx hb dJ25_hasNext_14 rfl (lv_goto (tgt := 19) hx hb dJ25_hasNext_15 (by decide) k)) ?_
    exact rk_top (rf_iret C rfl dJ25_hasNext_19)
theorem hd_J26_init : yJ26_init.cls ≠ "java/lang/invoke/MethodHandle" ∧ yJ26_init.cls ≠ "java/lang/invoke/VarHandle" ∧ (parseMethodDescriptor yJ26_init.desc).map (fun d => d.parameters.length) = some 0 := by decide +kernel
noncomputable def fn_J26_init (K : zm_K) (a0 : zm_R) : zm_M Unit :=
  zm_bnd (zm_bnd (zm_nn a0) fun _ => fn_J11_init_2 K a0) fun _ =>
  zm_ret ()
theorem ct_J26_init {l : Launch} {Ω : zm_W} {K : zm_K} (H : zm_H Ω K) (a0 : zm_R) : zm_Ct l Ω yJ26_init (ws_ yJ26_init cJ26_init 1 (Option.none : Option Jvm.ClassFile.FieldType)) 7 188 [va_rf a0] zm_tvV (fn_J26_init K a0) := by
  refine zm_ct H.1 (by decide +kernel) (zl_le (zl_R zl_nil) (Nat.le_of_ble_eq_true rfl)) ?_
  intro p e R s m args below meth c n0 k0 C hX ls hl
  have hx := C.1
  have hb := C.2.1
  simp only [zg_R, zg_nil] at hl
  have hl : lv_has ls 1 [(0, va_rf a0)] := hl
  refine rk_rf ?_
  unfold fn_J26_init
  refine rk_of (fun _ _ _ _ _ k => lr_aload_n hx hb dJ26_init_0 rfl (lv_at hl 0 rfl) k) ?_
  refine rk_callV hX (cl_Ir (rest := []) C (ct_J11_init_2 H a0) (lw_meth q800) q115 q798 q799 rfl hd_J11_init_2 ⟨(Nat.le_of_ble_eq_true rfl), (Nat.le_of_ble_eq_true rfl)⟩ rfl hl.1 rfl (zw_le zw_nil (Nat.le_of_ble_eq_true rfl)) dJ26_init_1) (fun _ => ?_)
  exact rk_top (rf_vret C dJ26_init_4)
theorem hd_X2_lambda_spans_0 : yX2_lambda_spans_0.cls ≠ "java/lang/invoke/MethodHandle" ∧ yX2_lambda_spans_0.cls ≠ "java/lang/invoke/VarHandle" ∧ (parseMethodDescriptor yX2_lambda_spans_0.desc).map (fun d => d.parameters.length) = some 2 := by decide +kernel
noncomputable def fn_X2_lambda_spans_0 (K : zm_K) (a0 : zm_R) (a1 : Int32) : zm_M Int32 :=
  zm_bnd (zm_aldI .boolean a0 a1) fun v2 =>
  zm_bnd (zm_grd (v2 = 0 ∨ v2 = 1)) fun _ =>
  zm_ret v2
theorem ct_X2_lambda_spans_0 {l : Launch} {Ω : zm_W} {K : zm_K} (H : zm_H Ω K) (a0 : zm_R) (a1 : Int32) : zm_Ct l Ω yX2_lambda_spans_0 (ws_ yX2_lambda_spans_0 cX2_lambda_spans_0 2 (Option.some Jvm.ClassFile.FieldType.boolean)) 1 64 [va_rf a0, .int a1] zm_tvI (fn_X2_lambda_spans_0 K a0 a1) := by
  refine zm_ct H.1 (by decide +kernel) (zl_le (zl_R (zl_I zl_nil)) (Nat.le_of_ble_eq_true rfl)) ?_
  intro p e R s m args below meth c n0 k0 C hX ls hl
  have hx := C.1
  have hb := C.2.1
  simp only [zg_I, zg_R, zg_nil] at hl
  have hl : lv_has ls 2 [(0, va_rf a0), (1, .int a1)] := hl
  refine rk_rf ?_
  unfold fn_X2_lambda_spans_0
  refine rk_of (fun _ _ _ _ _ k => lr_aload_n hx hb dX2_lambda_spans_0_0 rfl (lv_at hl 0 rfl) (lv_iload_n hx hb dX2_lambda_spans_0_1 rfl (lv_at hl 1 rfl) k)) ?_
  refine rk_zald C dX2_lambda_spans_0_2 (fun v2 => ?_)
  refine rk_grd (fun hg_3 => ?_)
  exact rk_top (rf_iret C (zn_Z hg_3) dX2_lambda_spans_0_3)
theorem hd_X2_lambda_gaps_1 : yX2_lambda_gaps_1.cls ≠ "java/lang/invoke/MethodHandle" ∧ yX2_lambda_gaps_1.cls ≠ "java/lang/invoke/VarHandle" ∧ (parseMethodDescriptor yX2_lambda_gaps_1.desc).map (fun d => d.parameters.length) = some 2 := by decide +kernel
noncomputable def fn_X2_lambda_gaps_1 (K : zm_K) (a0 : zm_R) (a1 : Int32) : zm_M Int32 :=
  zm_bnd (zm_aldI .boolean a0 a1) fun v2 =>
  if v2 = 0 then
    zm_ret 1
  else
    zm_ret 0
theorem ct_X2_lambda_gaps_1 {l : Launch} {Ω : zm_W} {K : zm_K} (H : zm_H Ω K) (a0 : zm_R) (a1 : Int32) : zm_Ct l Ω yX2_lambda_gaps_1 (ws_ yX2_lambda_gaps_1 cX2_lambda_gaps_1 2 (Option.some Jvm.ClassFile.FieldType.boolean)) 1 64 [va_rf a0, .int a1] zm_tvI (fn_X2_lambda_gaps_1 K a0 a1) := by
  refine zm_ct H.1 (by decide +kernel) (zl_le (zl_R (zl_I zl_nil)) (Nat.le_of_ble_eq_true rfl)) ?_
  intro p e R s m args below meth c n0 k0 C hX ls hl
  have hx := C.1
  have hb := C.2.1
  simp only [zg_I, zg_R, zg_nil] at hl
  have hl : lv_has ls 2 [(0, va_rf a0), (1, .int a1)] := hl
  refine rk_rf ?_
  unfold fn_X2_lambda_gaps_1
  refine rk_of (fun _ _ _ _ _ k => lr_aload_n hx hb dX2_lambda_gaps_1_0 rfl (lv_at hl 0 rfl) (lv_iload_n hx hb dX2_lambda_gaps_1_1 rfl (lv_at hl 1 rfl) k)) ?_
  refine rk_zald C dX2_lambda_gaps_1_2 (fun v2 => ?_)
  refine rk_ite (fun _ _ _ _ _ k1 k2 => lv_if_ne (tgt := 10) hx hb dX2_lambda_gaps_1_3 (by decide) k2 k1) (fun c_3 => ?_) (fun c_3 => ?_)
  · refine rk_of (fun _ _ _ _ _ k => lv_iconst (v := 1) hx hb dX2_lambda_gaps_1_6 rfl (lv_goto (tgt := 11) hx hb dX2_lambda_gaps_1_7 (by decide) k)) ?_
    exact rk_top (rf_iret C rfl dX2_lambda_gaps_1_11)
  · refine rk_of (fun _ _ _ _ _ k => lv_iconst (v := 0) hx hb dX2_lambda_gaps_1_10 rfl k) ?_
    exact rk_top (rf_iret C rfl dX2_lambda_gaps_1_11)
theorem hd_X1_lambda_hour_9 : yX1_lambda_hour_9.cls ≠ "java/lang/invoke/MethodHandle" ∧ yX1_lambda_hour_9.cls ≠ "java/lang/invoke/VarHandle" ∧ (parseMethodDescriptor yX1_lambda_hour_9.desc).map (fun d => d.parameters.length) = some 2 := by decide +kernel
noncomputable def fn_X1_lambda_hour_9 (K : zm_K) (a0 : zm_R) (a1 : Int32) : zm_M Int32 :=
  zm_bnd (zm_aldI .boolean a0 a1) fun v2 =>
  zm_bnd (zm_grd (v2 = 0 ∨ v2 = 1)) fun _ =>
  zm_ret v2
theorem ct_X1_lambda_hour_9 {l : Launch} {Ω : zm_W} {K : zm_K} (H : zm_H Ω K) (a0 : zm_R) (a1 : Int32) : zm_Ct l Ω yX1_lambda_hour_9 (ws_ yX1_lambda_hour_9 cX1_lambda_hour_9 2 (Option.some Jvm.ClassFile.FieldType.boolean)) 1 64 [va_rf a0, .int a1] zm_tvI (fn_X1_lambda_hour_9 K a0 a1) := by
  refine zm_ct H.1 (by decide +kernel) (zl_le (zl_R (zl_I zl_nil)) (Nat.le_of_ble_eq_true rfl)) ?_
  intro p e R s m args below meth c n0 k0 C hX ls hl
  have hx := C.1
  have hb := C.2.1
  simp only [zg_I, zg_R, zg_nil] at hl
  have hl : lv_has ls 2 [(0, va_rf a0), (1, .int a1)] := hl
  refine rk_rf ?_
  unfold fn_X1_lambda_hour_9
  refine rk_of (fun _ _ _ _ _ k => lr_aload_n hx hb dX1_lambda_hour_9_0 rfl (lv_at hl 0 rfl) (lv_iload_n hx hb dX1_lambda_hour_9_1 rfl (lv_at hl 1 rfl) k)) ?_
  refine rk_zald C dX1_lambda_hour_9_2 (fun v2 => ?_)
  refine rk_grd (fun hg_3 => ?_)
  exact rk_top (rf_iret C (zn_Z hg_3) dX1_lambda_hour_9_3)
theorem hd_X1_lambda_show_10 : yX1_lambda_show_10.cls ≠ "java/lang/invoke/MethodHandle" ∧ yX1_lambda_show_10.cls ≠ "java/lang/invoke/VarHandle" ∧ (parseMethodDescriptor yX1_lambda_show_10.desc).map (fun d => d.parameters.length) = some 2 := by decide +kernel
noncomputable def fn_X1_lambda_show_10 (K : zm_K) (a0 : zm_R) (a1 : Int32) : zm_M Int32 :=
  zm_bnd (zm_aldI .boolean a0 a1) fun v2 =>
  zm_bnd (zm_grd (v2 = 0 ∨ v2 = 1)) fun _ =>
  zm_ret v2
theorem ct_X1_lambda_show_10 {l : Launch} {Ω : zm_W} {K : zm_K} (H : zm_H Ω K) (a0 : zm_R) (a1 : Int32) : zm_Ct l Ω yX1_lambda_show_10 (ws_ yX1_lambda_show_10 cX1_lambda_show_10 2 (Option.some Jvm.ClassFile.FieldType.boolean)) 1 64 [va_rf a0, .int a1] zm_tvI (fn_X1_lambda_show_10 K a0 a1) := by
  refine zm_ct H.1 (by decide +kernel) (zl_le (zl_R (zl_I zl_nil)) (Nat.le_of_ble_eq_true rfl)) ?_
  intro p e R s m args below meth c n0 k0 C hX ls hl
  have hx := C.1
  have hb := C.2.1
  simp only [zg_I, zg_R, zg_nil] at hl
  have hl : lv_has ls 2 [(0, va_rf a0), (1, .int a1)] := hl
  refine rk_rf ?_
  unfold fn_X1_lambda_show_10
  refine rk_of (fun _ _ _ _ _ k => lr_aload_n hx hb dX1_lambda_show_10_0 rfl (lv_at hl 0 rfl) (lv_iload_n hx hb dX1_lambda_show_10_1 rfl (lv_at hl 1 rfl) k)) ?_
  refine rk_zald C dX1_lambda_show_10_2 (fun v2 => ?_)
  refine rk_grd (fun hg_3 => ?_)
  exact rk_top (rf_iret C (zn_Z hg_3) dX1_lambda_show_10_3)
noncomputable def fn_quest (K : zm_K) (r : zm_R) (a : Int32) : zm_M Int32 :=
  zm_bnd (zm_cls r) fun ci =>
  if ci = 109 then zm_bnd (zm_cap r 109 [false]) fun vs => zm_bnd (fn_X2_lambda_spans_0 K (zv_R (zv_at vs 0)) a) zl_retZ else
  if ci = 110 then zm_bnd (zm_cap r 110 [false]) fun vs => zm_bnd (fn_X2_lambda_gaps_1 K (zv_R (zv_at vs 0)) a) zl_retZ else
  if ci = 111 then zm_bnd (zm_cap r 111 [false]) fun vs => zm_bnd (fn_X1_lambda_hour_9 K (zv_R (zv_at vs 0)) a) zl_retZ else
  if ci = 126 then zm_bnd (zm_cap r 126 [false]) fun vs => zm_bnd (fn_X1_lambda_show_10 K (zv_R (zv_at vs 0)) a) zl_retZ else
  zm_fl
theorem cl_quest {index count : Nat} {cc : ByteArray} {own nm : String} {nL FF LL : Nat} {ret : Option FieldType} {pc : Nat} {ls : Array Slot} {st0 rest : List Value} {r : zm_R} {a : Int32} (H : zm_H Ω K) (C : zm_C p l R s m args meth c Ω lw_all cc own nm nL FF LL ret) (hlink : Cond.methodLink own index ⟨"BoxSpans$Question", "is", "(I)Z"⟩ ∈ lw_all) (hdecl : (Cond.declares ⟨"BoxSpans$Question", "is", "(I)Z"⟩).before args s = true) (hface : (Cond.interfaceMethod "BoxSpans$Question" "BoxSpans$Question" "is" "(I)Z").before args s = true) (hF : 3 ≤ FF ∧ 106 ≤ LL) (hl : ls.size = nL) (hst : st0 = .int a :: va_rf r :: rest) (hW : (rest.map fun v => v.category).sum ≤ 8) (hdg : decode cc pc = .ok (.invokeinterface index count, 5)) :
    zm_CL 5 p l e R s m args below meth c Ω n0 k0 zm_tvI (fn_quest K r a) (F0 m pc ls st0) rest := by
  refine cl_dsp fun ci => ?_
  refine cl_case ?_ ?_
  · exact cl_lam H C (i := 9) (F := 1) (L := 64) rfl zk_ok9 (zh_O H) (x := ⟨"BoxSpans$Question", "is", "(I)Z"⟩) (y := yX2_lambda_spans_0) (by decide +kernel) (by decide +kernel) (ty := .boolean) rfl rfl (by decide +kernel) hlink hdecl hface (lw_meth q1794) q102 q1793 (by decide) (by decide +kernel) (by decide +kernel) (by decide +kernel) zb_i1_d (Or.inr ⟨_, rfl, zb_i1_l⟩) zb_i1_c zb_i1_r zl_fZ (zl_comp (fun vs hv => by
      obtain ⟨x0, w0, rfl, h0⟩ := zv_consR hv
      cases zv_nil h0
      cases x0 <;> exact ct_X2_lambda_spans_0 H _ a)) ⟨Nat.le_trans (Nat.le_of_ble_eq_true rfl) hF.1, Nat.le_trans (Nat.le_of_ble_eq_true rfl) hF.2⟩ hl hst hW hdg
  refine cl_case ?_ ?_
  · exact cl_lam H C (i := 10) (F := 1) (L := 64) rfl zk_ok10 (zh_O H) (x := ⟨"BoxSpans$Question", "is", "(I)Z"⟩) (y := yX2_lambda_gaps_1) (by decide +kernel) (by decide +kernel) (ty := .boolean) rfl rfl (by decide +kernel) hlink hdecl hface (lw_meth q1834) q102 q1833 (by decide) (by decide +kernel) (by decide +kernel) (by decide +kernel) zb_i1_d (Or.inr ⟨_, rfl, zb_i1_l⟩) zb_i1_c zb_i1_r zl_fZ (zl_comp (fun vs hv => by
      obtain ⟨x0, w0, rfl, h0⟩ := zv_consR hv
      cases zv_nil h0
      cases x0 <;> exact ct_X2_lambda_gaps_1 H _ a)) ⟨Nat.le_trans (Nat.le_of_ble_eq_true rfl) hF.1, Nat.le_trans (Nat.le_of_ble_eq_true rfl) hF.2⟩ hl hst hW hdg
  refine cl_case ?_ ?_
  · exact cl_lam H C (i := 11) (F := 1) (L := 64) rfl zk_ok11 (zh_O H) (x := ⟨"BoxSpans$Question", "is", "(I)Z"⟩) (y := yX1_lambda_hour_9) (by decide +kernel) (by decide +kernel) (ty := .boolean) rfl rfl (by decide +kernel) hlink hdecl hface (lw_meth q1894) q101 q1893 (by decide) (by decide +kernel) (by decide +kernel) (by decide +kernel) zb_i1_d (Or.inr ⟨_, rfl, zb_i1_l⟩) zb_i1_c zb_i1_r zl_fZ (zl_comp (fun vs hv => by
      obtain ⟨x0, w0, rfl, h0⟩ := zv_consR hv
      cases zv_nil h0
      cases x0 <;> exact ct_X1_lambda_hour_9 H _ a)) ⟨Nat.le_trans (Nat.le_of_ble_eq_true rfl) hF.1, Nat.le_trans (Nat.le_of_ble_eq_true rfl) hF.2⟩ hl hst hW hdg
  refine cl_case ?_ ?_
  · exact cl_lam H C (i := 26) (F := 1) (L := 64) rfl zk_ok26 (zh_O H) (x := ⟨"BoxSpans$Question", "is", "(I)Z"⟩) (y := yX1_lambda_show_10) (by decide +kernel) (by decide +kernel) (ty := .boolean) rfl rfl (by decide +kernel) hlink hdecl hface (lw_meth q2479) q101 q2478 (by decide) (by decide +kernel) (by decide +kernel) (by decide +kernel) zb_i1_d (Or.inr ⟨_, rfl, zb_i1_l⟩) zb_i1_c zb_i1_r zl_fZ (zl_comp (fun vs hv => by
      obtain ⟨x0, w0, rfl, h0⟩ := zv_consR hv
      cases zv_nil h0
      cases x0 <;> exact ct_X1_lambda_show_10 H _ a)) ⟨Nat.le_trans (Nat.le_of_ble_eq_true rfl) hF.1, Nat.le_trans (Nat.le_of_ble_eq_true rfl) hF.2⟩ hl hst hW hdg
  exact cl_fl
theorem hd_X9_skips : yX9_skips.cls ≠ "java/lang/invoke/MethodHandle" ∧ yX9_skips.cls ≠ "java/lang/invoke/VarHandle" ∧ (parseMethodDescriptor yX9_skips.desc).map (fun d => d.parameters.length) = some 2 := by decide +kernel
noncomputable def fn_X9_skips_2 (K : zm_K) (p0 : zm_R) (p2 : Int32) : Nat → Int32 → zm_M (Int32)
  | 0, _ => zm_fl
  | n + 1, x3 =>
    if 600 ≤ x3 then
      zm_ret x3
    else
      zm_bnd (zm_getR p0 25 0) fun v10 =>
      zm_bnd (fn_quest K v10 x3) fun v14 =>
      if v14 = p2 then
        fn_X9_skips_2 K p0 p2 n (x3 + 1)
      else
        zm_ret x3
noncomputable def fn_X9_skips (K : zm_K) (a0 : zm_R) (a1 : Int32) (a2 : Int32) : zm_M Int32 :=
  zm_bnd (α := Int32) (fn_X9_skips_2 K a0 a2 zm_N a1) fun b29 =>
  zm_ret b29
theorem rf_X9_skips_2 (H : zm_H Ω K) (C : zm_C p l R s m args meth c Ω lw_all cX9_skips yX9_skips.cls yX9_skips.name 4 3 106 (Option.some Jvm.ClassFile.FieldType.int)) (hX : zm_XO p l e R s m args below meth c Ω n0 k0 (zm_QFs below args s Ω n0 k0 zm_tvI)) (p0 : zm_R) (p2 : Int32) : ∀ (n : Nat) (x3 : Int32) (J : (Int32) → zm_M Int32) (ls : Array Slot), lv_has ls 4 [(0, va_rf p0), (2, .int p2), (3, .int x3)] → (∀ (b : Int32) (ls : Array Slot), lv_has ls 4 [(3, .int b)] → zm_RK p l e R s m args below meth c Ω n0 k0 (zm_QFs below args s Ω n0 k0 zm_tvI) (zm_ret b) J (F0 m 29 ls [])) → zm_RK p l e R s m args below meth c Ω n0 k0 (zm_QFs below args s Ω n0 k0 zm_tvI) (fn_X9_skips_2 K p0 p2 n x3) J (F0 m 2 ls []) := by
  have hx := C.1
  have hb := C.2.1
  intro n
  induction n with
  | zero => intro x3 J ls hl hJ; exact rk_fl
  | succ n ih =>
    intro x3 J ls hl hJ
    unfold fn_X9_skips_2
    refine rk_ite (fun _ _ _ _ _ k1 k2 => lv_iload_n hx hb dX9_skips_2 rfl (lv_at hl 2 rfl) (lv_sipush (v := 600) hx hb dX9_skips_3 rfl (lv_icmp_ge (tgt := 29) hx hb dX9_skips_6 (by decide) k1 k2))) (fun c_6 => ?_) (fun c_6 => ?_)
    · exact hJ x3 ls (lv_sub hl [2] rfl)
    · refine rk_of (fun _ _ _ _ _ k => lr_aload_n hx hb dX9_skips_9 rfl (lv_at hl 0 rfl) k) ?_
      refine rk_get zm_rdR_eq C (hc_X9 H) (k := 0) (Nat.le_of_ble_eq_true rfl) in_X9 q1799 (fun _ h => h) dX9_skips_10 (fun v10 => ?_)
      refine rk_of (fun _ _ _ _ _ k => lv_iload_n hx hb dX9_skips_13 rfl (lv_at hl 2 rfl) k) ?_
      refine rk_callI hX (cl_quest (rest := []) H C q815 (zn_wD H C q817) (zn_wI H C (by decide) q816 q817) ⟨(Nat.le_of_ble_eq_true rfl), (Nat.le_of_ble_eq_true rfl)⟩ hl.1 rfl (zw_le zw_nil (Nat.le_of_ble_eq_true rfl)) dX9_skips_14) (fun v14 => ?_)
      refine rk_ite (fun _ _ _ _ _ k1 k2 => lv_iload_n hx hb dX9_skips_19 rfl (lv_at hl 1 rfl) (lv_icmp_ne (tgt := 29) hx hb dX9_skips_20 (by decide) k2 k1)) (fun c_20 => ?_) (fun c_20 => ?_)
      · refine rk_ofs (fun _ _ _ _ _ k => lr_iinc (v := x3 + 1) hx hb dX9_skips_23 hl (k := 2) rfl rfl (Nat.le_of_ble_eq_true rfl) [0, 1] rfl ⟨trivial, ⟨rfl, trivial⟩⟩ k) (fun ls hl => ?_)
        refine rk_of (fun _ _ _ _ _ k => lv_goto (tgt := 2) hx hb dX9_skips_26 (by decide) k) ?_
        exact ih (x3 + 1) J ls (lv_sub hl [1, 2, 0] rfl) hJ
      · exact hJ x3 ls (lv_sub hl [2] rfl)
theorem ct_X9_skips {l : Launch} {Ω : zm_W} {K : zm_K} (H : zm_H Ω K) (a0 : zm_R) (a1 : Int32) (a2 : Int32) : zm_Ct l Ω yX9_skips (ws_ yX9_skips cX9_skips 4 (Option.some Jvm.ClassFile.FieldType.int)) 3 106 [va_rf a0, .int a1, .int a2] zm_tvI (fn_X9_skips K a0 a1 a2) := by
  refine zm_ct H.1 (by decide +kernel) (zl_le (zl_R (zl_I (zl_I zl_nil))) (Nat.le_of_ble_eq_true rfl)) ?_
  intro p e R s m args below meth c n0 k0 C hX ls hl
  have hx := C.1
  have hb := C.2.1
  simp only [zg_I, zg_R, zg_nil] at hl
  have hl : lv_has ls 4 [(0, va_rf a0), (1, .int a1), (2, .int a2)] := hl
  refine rk_rf ?_
  unfold fn_X9_skips
  refine rk_ofs (fun _ _ _ _ _ k => lv_iload_n hx hb dX9_skips_0 rfl (lv_at hl 1 rfl) (lr_istore_n hx hb dX9_skips_1 rfl hl (Nat.le_of_ble_eq_true rfl) [0, 2] rfl ⟨trivial, ⟨rfl, trivial⟩⟩ k)) (fun ls hl => ?_)
  refine rk_join (β := Int32) (fun (b29 : Int32) ls => lv_has ls 4 [(3, .int b29)]) (fun (b29 : Int32) ls => F0 m 29 ls []) (fun b29 ls hl => ?_) (fun hJ29 => ?_)
  · refine rk_of (fun _ _ _ _ _ k => lv_iload_n hx hb dX9_skips_29 rfl (lv_at hl 0 rfl) k) ?_
    exact rk_top (rf_iret C rfl dX9_skips_30)
  · exact rf_X9_skips_2 H C hX a0 a2 zm_N a1 _ ls (lv_sub hl [1, 2, 0] rfl) hJ29
theorem hd_X5_init : yX5_init.cls ≠ "java/lang/invoke/MethodHandle" ∧ yX5_init.cls ≠ "java/lang/invoke/VarHandle" ∧ (parseMethodDescriptor yX5_init.desc).map (fun d => d.parameters.length) = some 2 := by decide +kernel
noncomputable def fn_X5_init (K : zm_K) (a0 : zm_R) (a1 : Int32) (a2 : Int32) : zm_M Unit :=
  zm_bnd (zm_grd (a0 ≠ none)) fun _ =>
  zm_bnd (zm_putF K a0 22 0 (.int a1)) fun _ =>
  zm_bnd (zm_putF K a0 22 1 (.int a2)) fun _ =>
  zm_ret ()
theorem ct_X5_init {l : Launch} {Ω : zm_W} {K : zm_K} (H : zm_H Ω K) (a0 : zm_R) (a1 : Int32) (a2 : Int32) : zm_Ct l Ω yX5_init (ws_ yX5_init cX5_init 3 (Option.none : Option Jvm.ClassFile.FieldType)) 2 84 [va_rf a0, .int a1, .int a2] zm_tvV (fn_X5_init K a0 a1 a2) := by
  refine zm_ct H.1 (by decide +kernel) (zl_le (zl_R (zl_I (zl_I zl_nil))) (Nat.le_of_ble_eq_true rfl)) ?_
  intro p e R s m args below meth c n0 k0 C hX ls hl
  have hx := C.1
  have hb := C.2.1
  simp only [zg_I, zg_R, zg_nil] at hl
  have hl : lv_has ls 3 [(0, va_rf a0), (1, .int a1), (2, .int a2)] := hl
  refine rk_rf ?_
  unfold fn_X5_init
  refine rk_of (fun _ _ _ _ _ k => lr_aload_n hx hb dX5_init_0 rfl (lv_at hl 0 rfl) k) ?_
  refine rk_grd (fun hg_1 => ?_)
  refine rk_of (fun _ _ _ _ _ k => zo_init C hl.1 q821 q156 q157 hg_1 (Nat.le_of_ble_eq_true rfl) (zw_le12 zw_nil (Nat.le_of_ble_eq_true rfl)) dX5_init_1 k) ?_
  refine rk_of (fun _ _ _ _ _ k => lr_aload_n hx hb dX5_init_4 rfl (lv_at hl 0 rfl) (lv_iload_n hx hb dX5_init_5 rfl (lv_at hl 1 rfl) k)) ?_
  refine rk_put C H.2.2.1 (hc_X5 H) (k := 0) (Nat.le_of_ble_eq_true rfl) in_X5 (ty0 := tyX5) tyX5_ok nmX5 q822 (fun _ h => h) (Or.inr ⟨rfl, rfl, rfl⟩) rfl rfl dX5_init_6 ?_
  refine rk_of (fun _ _ _ _ _ k => lr_aload_n hx hb dX5_init_9 rfl (lv_at hl 0 rfl) (lv_iload_n hx hb dX5_init_10 rfl (lv_at hl 2 rfl) k)) ?_
  refine rk_put C H.2.2.1 (hc_X5 H) (k := 1) (Nat.le_of_ble_eq_true rfl) in_X5 (ty0 := tyX5) tyX5_ok nmX5 q823 (fun _ h => h) (Or.inr ⟨rfl, rfl, rfl⟩) rfl rfl dX5_init_11 ?_
  exact rk_top (rf_vret C dX5_init_14)
theorem hd_X5_to : yX5_to.cls ≠ "java/lang/invoke/MethodHandle" ∧ yX5_to.cls ≠ "java/lang/invoke/VarHandle" ∧ (parseMethodDescriptor yX5_to.desc).map (fun d => d.parameters.length) = some 0 := by decide +kernel
noncomputable def fn_X5_to (K : zm_K) (a0 : zm_R) : zm_M Int32 :=
  zm_bnd (zm_getI a0 22 1) fun v1 =>
  zm_ret v1
theorem ct_X5_to {l : Launch} {Ω : zm_W} {K : zm_K} (H : zm_H Ω K) (a0 : zm_R) : zm_Ct l Ω yX5_to (ws_ yX5_to cX5_to 1 (Option.some Jvm.ClassFile.FieldType.int)) 1 64 [va_rf a0] zm_tvI (fn_X5_to K a0) := by
  refine zm_ct H.1 (by decide +kernel) (zl_le (zl_R zl_nil) (Nat.le_of_ble_eq_true rfl)) ?_
  intro p e R s m args below meth c n0 k0 C hX ls hl
  have hx := C.1
  have hb := C.2.1
  simp only [zg_R, zg_nil] at hl
  have hl : lv_has ls 1 [(0, va_rf a0)] := hl
  refine rk_rf ?_
  unfold fn_X5_to
  refine rk_of (fun _ _ _ _ _ k => lr_aload_n hx hb dX5_to_0 rfl (lv_at hl 0 rfl) k) ?_
  refine rk_get zm_rdI_eq C (hc_X5 H) (k := 1) (Nat.le_of_ble_eq_true rfl) in_X5 q823 (fun _ h => h) dX5_to_1 (fun v1 => ?_)
  exact rk_top (rf_iret C rfl dX5_to_4)
theorem hd_X10_next_2 : yX10_next_2.cls ≠ "java/lang/invoke/MethodHandle" ∧ yX10_next_2.cls ≠ "java/lang/invoke/VarHandle" ∧ (parseMethodDescriptor yX10_next_2.desc).map (fun d => d.parameters.length) = some 0 := by decide +kernel
noncomputable def fn_X10_next_2 (K : zm_K) (a0 : zm_R) : zm_M zm_R :=
  zm_bnd (zm_bnd (zm_is a0 26) fun _ => fn_X10_hasNext K a0) fun v1 =>
  if v1 = 0 then
    zm_bnd (zm_new 12 [.null, .null, .null, .null, .null, .int 0]) fun v7 =>
    zm_bnd (fn_J26_init K (some v7)) fun _ =>
    zm_ath (some v7)
  else
    zm_bnd (zm_new 22 [.int 0, .int 0]) fun v15 =>
    zm_bnd (zm_getI a0 26 0) fun v20 =>
    zm_bnd (zm_getR a0 26 1) fun v24 =>
    zm_bnd (zm_getI a0 26 0) fun v28 =>
    zm_bnd (zm_bnd (zm_is v24 25) fun _ => fn_X9_skips K v24 v28 1) fun v32 =>
    zm_bnd (fn_X5_init K (some v15) v20 v32) fun _ =>
    zm_bnd (zm_getR a0 26 1) fun v41 =>
    zm_bnd (zm_bnd (zm_is (some v15) 22) fun _ => fn_X5_to K (some v15)) fun v45 =>
    zm_bnd (zm_bnd (zm_is v41 25) fun _ => fn_X9_skips K v41 v45 0) fun v49 =>
    zm_bnd (zm_putF K a0 26 0 (.int v49)) fun _ =>
    zm_ret (some v15)
theorem ct_X10_next_2 {l : Launch} {Ω : zm_W} {K : zm_K} (H : zm_H Ω K) (a0 : zm_R) : zm_Ct l Ω yX10_next_2 (ws_ yX10_next_2 cX10_next_2 2 (Option.some (Jvm.ClassFile.FieldType.object "BoxSpans$Span"))) 8 208 [va_rf a0] zm_tvR (fn_X10_next_2 K a0) := by
  refine zm_ct H.1 (by decide +kernel) (zl_le (zl_R zl_nil) (Nat.le_of_ble_eq_true rfl)) ?_
  intro p e R s m args below meth c n0 k0 C hX ls hl
  have hx := C.1
  have hb := C.2.1
  simp only [zg_R, zg_nil] at hl
  have hl : lv_has ls 2 [(0, va_rf a0)] := hl
  refine rk_rf ?_
  unfold fn_X10_next_2
  refine rk_of (fun _ _ _ _ _ k => lr_aload_n hx hb dX10_next_2_0 rfl (lv_at hl 0 rfl) k) ?_
  refine rk_callI hX (cl_V (rest := []) (av := []) C (hc_X10 H) (ct_X10_hasNext H a0) (lw_V q785 q739 q3077 q143 q741) ⟨rfl, hd_X10_hasNext⟩ ⟨(Nat.le_of_ble_eq_true rfl), (Nat.le_of_ble_eq_true rfl)⟩ rfl hl.1 rfl (zw_le zw_nil (Nat.le_of_ble_eq_true rfl)) dX10_next_2_1) (fun v1 => ?_)
  refine rk_ite (fun _ _ _ _ _ k1 k2 => lv_if_ne (tgt := 15) hx hb dX10_next_2_4 (by decide) k2 k1) (fun c_4 => ?_) (fun c_4 => ?_)
  · refine rk_new C (hc_J26 H) in_J26 tyJ26_ok q786 q787 q134 (fs := [.null, .null, .null, .null, .null, .int 0]) rfl (fun j hj => zdf_J26 j hj) dX10_next_2_7 (fun v7 => ?_)
    refine rk_of (fun _ _ _ _ _ k => lv_dup hx hb dX10_next_2_10 (va_rf_cat _) k) ?_
    refine rk_callV hX (cl_I (rest := [va_rf (some v7)]) C (ct_J26_init H (some v7)) (lw_meth q797) q134 q795 q796 rfl hd_J26_init ⟨(Nat.le_of_ble_eq_true rfl), (Nat.le_of_ble_eq_true rfl)⟩ rfl hl.1 rfl (zw_le (zw_R zw_nil) (Nat.le_of_ble_eq_true rfl)) dX10_next_2_11) (fun _ => ?_)
    exact rk_ath H C hX dX10_next_2_14
  · refine rk_new C (hc_X5 H) in_X5 tyX5_ok q807 q808 q135 (fs := [.int 0, .int 0]) rfl (fun j hj => zdf_X5 j hj) dX10_next_2_15 (fun v15 => ?_)
    refine rk_of (fun _ _ _ _ _ k => lv_dup hx hb dX10_next_2_18 (va_rf_cat _) (lr_aload_n hx hb dX10_next_2_19 rfl (lv_at hl 0 rfl) k)) ?_
    refine rk_get zm_rdI_eq C (hc_X10 H) (k := 0) (Nat.le_of_ble_eq_true rfl) in_X10 q1817 (fun _ h => h) dX10_next_2_20 (fun v20 => ?_)
    refine rk_of (fun _ _ _ _ _ k => lr_aload_n hx hb dX10_next_2_23 rfl (lv_at hl 0 rfl) k) ?_
    refine rk_get zm_rdR_eq C (hc_X10 H) (k := 1) (Nat.le_of_ble_eq_true rfl) in_X10 q1818 (fun _ h => h) dX10_next_2_24 (fun v24 => ?_)
    refine rk_of (fun _ _ _ _ _ k => lr_aload_n hx hb dX10_next_2_27 rfl (lv_at hl 0 rfl) k) ?_
    refine rk_get zm_rdI_eq C (hc_X10 H) (k := 0) (Nat.le_of_ble_eq_true rfl) in_X10 q1817 (fun _ h => h) dX10_next_2_28 (fun v28 => ?_)
    refine rk_of (fun _ _ _ _ _ k => lv_iconst (v := 1) hx hb dX10_next_2_31 rfl k) ?_
    refine rk_callI hX (cl_VN (rest := [.int v20, va_rf (some v15), va_rf (some v15)]) (av := [.int v28, .int 1]) C (hc_X9 H) (ct_X9_skips H v24 v28 1) (lw_meth q813) q142 (zn_wM H C q809) q811 qs6 hd_X9_skips ⟨(Nat.le_of_ble_eq_true rfl), (Nat.le_of_ble_eq_true rfl)⟩ rfl hl.1 rfl (zw_le (zw_I (zw_R (zw_R zw_nil))) (Nat.le_of_ble_eq_true rfl)) dX10_next_2_32) (fun v32 => ?_)
    refine rk_callV hX (cl_I (rest := [va_rf (some v15)]) C (ct_X5_init H (some v15) v20 v32) (lw_meth q820) q135 q818 q819 rfl hd_X5_init ⟨(Nat.le_of_ble_eq_true rfl), (Nat.le_of_ble_eq_true rfl)⟩ rfl hl.1 rfl (zw_le (zw_R zw_nil) (Nat.le_of_ble_eq_true rfl)) dX10_next_2_35) (fun _ => ?_)
    refine rk_ofs (fun _ _ _ _ _ k => lr_astore_n hx hb dX10_next_2_38 rfl hl (Nat.le_of_ble_eq_true rfl) [0] rfl ⟨(by first | exact va_rf_cat _ | rfl), trivial⟩ k) (fun ls hl => ?_)
    refine rk_of (fun _ _ _ _ _ k => lr_aload_n hx hb dX10_next_2_39 rfl (lv_at hl 1 rfl) (lr_aload_n hx hb dX10_next_2_40 rfl (lv_at hl 1 rfl) k)) ?_
    refine rk_get zm_rdR_eq C (hc_X10 H) (k := 1) (Nat.le_of_ble_eq_true rfl) in_X10 q1818 (fun _ h => h) dX10_next_2_41 (fun v41 => ?_)
    refine rk_of (fun _ _ _ _ _ k => lr_aload_n hx hb dX10_next_2_44 rfl (lv_at hl 0 rfl) k) ?_
    refine rk_callI hX (cl_V (rest := [va_rf v41, va_rf a0]) (av := []) C (hc_X5 H) (ct_X5_to H (some v15)) (lw_V q829 q830 q831 q135 q832) ⟨rfl, hd_X5_to⟩ ⟨(Nat.le_of_ble_eq_true rfl), (Nat.le_of_ble_eq_true rfl)⟩ rfl hl.1 rfl (zw_le (zw_R (zw_R zw_nil)) (Nat.le_of_ble_eq_true rfl)) dX10_next_2_45) (fun v45 => ?_)
    refine rk_of (fun _ _ _ _ _ k => lv_iconst (v := 0) hx hb dX10_next_2_48 rfl k) ?_
    refine rk_callI hX (cl_VN (rest := [va_rf a0]) (av := [.int v45, .int 0]) C (hc_X9 H) (ct_X9_skips H v41 v45 0) (lw_meth q813) q142 (zn_wM H C q809) q811 qs6 hd_X9_skips ⟨(Nat.le_of_ble_eq_true rfl), (Nat.le_of_ble_eq_true rfl)⟩ rfl hl.1 rfl (zw_le (zw_R zw_nil) (Nat.le_of_ble_eq_true rfl)) dX10_next_2_49) (fun v49 => ?_)
    refine rk_put C H.2.2.1 (hc_X10 H) (k := 0) (Nat.le_of_ble_eq_true rfl) in_X10 (ty0 := tyX10) tyX10_ok nmX10 q1817 (fun _ h => h) (Or.inl rfl) rfl rfl dX10_next_2_52 ?_
    refine rk_of (fun _ _ _ _ _ k => lr_aload_n hx hb dX10_next_2_55 rfl (lv_at hl 0 rfl) k) ?_
    exact rk_top (rf_aret C (Or.inl ⟨_, rfl⟩) dX10_next_2_56)
theorem hd_X10_next : yX10_next.cls ≠ "java/lang/invoke/MethodHandle" ∧ yX10_next.cls ≠ "java/lang/invoke/VarHandle" ∧ (parseMethodDescriptor yX10_next.desc).map (fun d => d.parameters.length) = some 0 := by decide +kernel
noncomputable def fn_X10_next (K : zm_K) (a0 : zm_R) : zm_M zm_R :=
  zm_bnd (zm_bnd (zm_is a0 26) fun _ => fn_X10_next_2 K a0) fun v1 =>
  zm_ret v1
theorem ct_X10_next {l : Launch} {Ω : zm_W} {K : zm_K} (H : zm_H Ω K) (a0 : zm_R) : zm_Ct l Ω yX10_next (ws_ yX10_next cX10_next 1 (Option.some (Jvm.ClassFile.FieldType.object "java/lang/Object"))) 9 229 [va_rf a0] zm_tvR (fn_X10_next K a0) := by
  refine zm_ct H.1 (by decide +kernel) (zl_le (zl_R zl_nil) (Nat.le_of_ble_eq_true rfl)) ?_
  intro p e R s m args below meth c n0 k0 C hX ls hl
  have hx := C.1
  have hb := C.2.1
  simp only [zg_R, zg_nil] at hl
  have hl : lv_has ls 1 [(0, va_rf a0)] := hl
  refine rk_rf ?_
  unfold fn_X10_next
  refine rk_of (fun _ _ _ _ _ k => lr_aload_n hx hb dX10_next_0 rfl (lv_at hl 0 rfl) k) ?_
  refine rk_callR hX (cl_V (rest := []) (av := []) C (hc_X10 H) (ct_X10_next_2 H a0) (lw_V q781 q782 q783 q143 q784) ⟨rfl, hd_X10_next_2⟩ ⟨(Nat.le_of_ble_eq_true rfl), (Nat.le_of_ble_eq_true rfl)⟩ rfl hl.1 rfl (zw_le zw_nil (Nat.le_of_ble_eq_true rfl)) dX10_next_1) (fun v1 => ?_)
  exact rk_top (rf_aret C (Or.inl ⟨_, rfl⟩) dX10_next_4)
theorem hd_J27_checkIndex : yJ27_checkIndex.cls ≠ "java/lang/invoke/MethodHandle" ∧ yJ27_checkIndex.cls ≠ "java/lang/invoke/VarHandle" ∧ (parseMethodDescriptor yJ27_checkIndex.desc).map (fun d => d.parameters.length) = some 2 := by decide +kernel
noncomputable def fn_J27_checkIndex (K : zm_K) (a0 : Int32) (a1 : Int32) : zm_M Int32 :=
  zm_bnd (fn_J20_checkIndex K a0 a1 none) fun v3 =>
  zm_ret v3
theorem ct_J27_checkIndex {l : Launch} {Ω : zm_W} {K : zm_K} (H : zm_H Ω K) (a0 : Int32) (a1 : Int32) : zm_Ct l Ω yJ27_checkIndex (ws_ yJ27_checkIndex cJ27_checkIndex 2 (Option.some Jvm.ClassFile.FieldType.int)) 2 86 [.int a0, .int a1] zm_tvI (fn_J27_checkIndex K a0 a1) := by
  refine zm_ct H.1 (by decide +kernel) (zl_le (zl_I (zl_I zl_nil)) (Nat.le_of_ble_eq_true rfl)) ?_
  intro p e R s m args below meth c n0 k0 C hX ls hl
  have hx := C.1
  have hb := C.2.1
  simp only [zg_I, zg_nil] at hl
  have hl : lv_has ls 2 [(0, .int a0), (1, .int a1)] := hl
  refine rk_rf ?_
  unfold fn_J27_checkIndex
  refine rk_of (fun _ _ _ _ _ k => lv_iload_n hx hb dJ27_checkIndex_0 rfl (lv_at hl 0 rfl) (lv_iload_n hx hb dJ27_checkIndex_1 rfl (lv_at hl 1 rfl) (lr_null hx hb dJ27_checkIndex_2 k))) ?_
  refine rk_callI hX (cl_S (rest := []) C (ct_J20_checkIndex H a0 a1 none) (lw_S q852 q853 q127 q854) hd_J20_checkIndex ⟨(Nat.le_of_ble_eq_true rfl), (Nat.le_of_ble_eq_true rfl)⟩ rfl hl.1 rfl (zw_le zw_nil (Nat.le_of_ble_eq_true rfl)) dJ27_checkIndex_3) (fun v3 => ?_)
  exact rk_top (rf_iret C rfl dJ27_checkIndex_6)
end
