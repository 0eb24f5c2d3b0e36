/-! the reference, and what of the JDK it calls -/
section
variable {p : Program} {l : Launch} {e : Env} {R : Room} {s : State} {m : MethodId} {args : Array Value} {below : List Frame} {meth : Method} {c : Code} {Ω : zm_W} {K : zm_K} {n0 k0 : Nat}
theorem hd_X3_init : yX3_init.cls ≠ "java/lang/invoke/MethodHandle" ∧ yX3_init.cls ≠ "java/lang/invoke/VarHandle" ∧ (parseMethodDescriptor yX3_init.desc).map (fun d => d.parameters.length) = some 0 := by decide +kernel
noncomputable def fn_X3_init (K : zm_K) (a0 : zm_R) : zm_M Unit :=
  zm_bnd (zm_grd (a0 ≠ none)) fun _ =>
  zm_bnd (zm_newa .int (.inl fun _ => 0) 197) fun v8 =>
  zm_bnd (zm_putF K a0 20 0 (va_rf (some v8))) fun _ =>
  zm_bnd (zm_newa .int (.inl fun _ => 0) 197) fun v17 =>
  zm_bnd (zm_putF K a0 20 1 (va_rf (some v17))) fun _ =>
  zm_bnd (zm_newa .int (.inl fun _ => 0) 197) fun v26 =>
  zm_bnd (zm_putF K a0 20 2 (va_rf (some v26))) fun _ =>
  zm_bnd (zm_newa .int (.inl fun _ => 0) 1576) fun v35 =>
  zm_bnd (zm_putF K a0 20 3 (va_rf (some v35))) fun _ =>
  zm_bnd (zm_putF K a0 20 10 (.int (-1))) fun _ =>
  zm_bnd (zm_newa .int (.inl fun _ => 0) 12) fun v48 =>
  zm_bnd (zm_putF K a0 20 12 (va_rf (some v48))) fun _ =>
  zm_bnd (zm_newa .int (.inl fun _ => 0) 2) fun v55 =>
  zm_bnd (zm_putF K a0 20 13 (va_rf (some v55))) fun _ =>
  zm_bnd (zm_newa .int (.inl fun _ => 0) 400) fun v64 =>
  zm_bnd (zm_putF K a0 20 15 (va_rf (some v64))) fun _ =>
  zm_bnd (zm_newa .int (.inl fun _ => 0) 60) fun v72 =>
  zm_bnd (zm_putF K a0 20 17 (va_rf (some v72))) fun _ =>
  zm_bnd (zm_newa .int (.inl fun _ => 0) 60) fun v80 =>
  zm_bnd (zm_putF K a0 20 18 (va_rf (some v80))) fun _ =>
  zm_ret ()
theorem ct_X3_init {l : Launch} {Ω : zm_W} {K : zm_K} (H : zm_H Ω K) (a0 : zm_R) : zm_Ct l Ω yX3_init (ws_ yX3_init cX3_init 1 (Option.none : Option Jvm.ClassFile.FieldType)) 2 84 [va_rf a0] zm_tvV (fn_X3_init K a0) := by
  refine zm_ct H.1 (by decide +kernel) (zl_le (zl_R zl_nil) (Nat.le_of_ble_eq_true rfl)) ?_
  intro p e R s m args below meth c n0 k0 C hX ls hl
  have hx := C.1
  have hb := C.2.1
  simp only [zg_R, zg_nil] at hl
  have hl : lv_has ls 1 [(0, va_rf a0)] := hl
  refine rk_rf ?_
  unfold fn_X3_init
  refine rk_of (fun _ _ _ _ _ k => lr_aload_n hx hb dX3_init_0 rfl (lv_at hl 0 rfl) k) ?_
  refine rk_grd (fun hg_1 => ?_)
  refine rk_of (fun _ _ _ _ _ k => zo_init C hl.1 q2576 q156 q157 hg_1 (Nat.le_of_ble_eq_true rfl) (zw_le12 zw_nil (Nat.le_of_ble_eq_true rfl)) dX3_init_1 k) ?_
  refine rk_of (fun _ _ _ _ _ k => lr_aload_n hx hb dX3_init_4 rfl (lv_at hl 0 rfl) (lv_sipush (v := 197) hx hb dX3_init_5 rfl k)) ?_
  refine rk_newa C (atype := .int) rfl 0 rfl (fun _ _ h => h) (fun _ _ => rfl) q1076 dX3_init_8 (fun v8 => ?_)
  refine rk_put C H.2.2.1 (hc_X3 H) (k := 0) (Nat.le_of_ble_eq_true rfl) in_X3 (ty0 := tyX3) tyX3_ok nmX3 q2577 (fun _ h => h) (Or.inr ⟨rfl, rfl, rfl⟩) (zn_R rfl _) (zp_R rfl _) dX3_init_10 ?_
  refine rk_of (fun _ _ _ _ _ k => lr_aload_n hx hb dX3_init_13 rfl (lv_at hl 0 rfl) (lv_sipush (v := 197) hx hb dX3_init_14 rfl k)) ?_
  refine rk_newa C (atype := .int) rfl 0 rfl (fun _ _ h => h) (fun _ _ => rfl) q1076 dX3_init_17 (fun v17 => ?_)
  refine rk_put C H.2.2.1 (hc_X3 H) (k := 1) (Nat.le_of_ble_eq_true rfl) in_X3 (ty0 := tyX3) tyX3_ok nmX3 q2578 (fun _ h => h) (Or.inr ⟨rfl, rfl, rfl⟩) (zn_R rfl _) (zp_R rfl _) dX3_init_19 ?_
  refine rk_of (fun _ _ _ _ _ k => lr_aload_n hx hb dX3_init_22 rfl (lv_at hl 0 rfl) (lv_sipush (v := 197) hx hb dX3_init_23 rfl k)) ?_
  refine rk_newa C (atype := .int) rfl 0 rfl (fun _ _ h => h) (fun _ _ => rfl) q1076 dX3_init_26 (fun v26 => ?_)
  refine rk_put C H.2.2.1 (hc_X3 H) (k := 2) (Nat.le_of_ble_eq_true rfl) in_X3 (ty0 := tyX3) tyX3_ok nmX3 q2579 (fun _ h => h) (Or.inr ⟨rfl, rfl, rfl⟩) (zn_R rfl _) (zp_R rfl _) dX3_init_28 ?_
  refine rk_of (fun _ _ _ _ _ k => lr_aload_n hx hb dX3_init_31 rfl (lv_at hl 0 rfl) (lv_sipush (v := 1576) hx hb dX3_init_32 rfl k)) ?_
  refine rk_newa C (atype := .int) rfl 0 rfl (fun _ _ h => h) (fun _ _ => rfl) q1076 dX3_init_35 (fun v35 => ?_)
  refine rk_put C H.2.2.1 (hc_X3 H) (k := 3) (Nat.le_of_ble_eq_true rfl) in_X3 (ty0 := tyX3) tyX3_ok nmX3 q2580 (fun _ h => h) (Or.inr ⟨rfl, rfl, rfl⟩) (zn_R rfl _) (zp_R rfl _) dX3_init_37 ?_
  refine rk_of (fun _ _ _ _ _ k => lr_aload_n hx hb dX3_init_40 rfl (lv_at hl 0 rfl) (lv_iconst (v := (-1)) hx hb dX3_init_41 rfl k)) ?_
  refine rk_put C H.2.2.1 (hc_X3 H) (k := 10) (Nat.le_of_ble_eq_true rfl) in_X3 (ty0 := tyX3) tyX3_ok nmX3 q2587 (fun _ h => h) (Or.inl rfl) rfl rfl dX3_init_42 ?_
  refine rk_of (fun _ _ _ _ _ k => lr_aload_n hx hb dX3_init_45 rfl (lv_at hl 0 rfl) (lv_bipush (v := 12) hx hb dX3_init_46 rfl k)) ?_
  refine rk_newa C (atype := .int) rfl 0 rfl (fun _ _ h => h) (fun _ _ => rfl) q1076 dX3_init_48 (fun v48 => ?_)
  refine rk_put C H.2.2.1 (hc_X3 H) (k := 12) (Nat.le_of_ble_eq_true rfl) in_X3 (ty0 := tyX3) tyX3_ok nmX3 q2589 (fun _ h => h) (Or.inr ⟨rfl, rfl, rfl⟩) (zn_R rfl _) (zp_R rfl _) dX3_init_50 ?_
  refine rk_of (fun _ _ _ _ _ k => lr_aload_n hx hb dX3_init_53 rfl (lv_at hl 0 rfl) (lv_iconst (v := 2) hx hb dX3_init_54 rfl k)) ?_
  refine rk_newa C (atype := .int) rfl 0 rfl (fun _ _ h => h) (fun _ _ => rfl) q1076 dX3_init_55 (fun v55 => ?_)
  refine rk_put C H.2.2.1 (hc_X3 H) (k := 13) (Nat.le_of_ble_eq_true rfl) in_X3 (ty0 := tyX3) tyX3_ok nmX3 q2590 (fun _ h => h) (Or.inr ⟨rfl, rfl, rfl⟩) (zn_R rfl _) (zp_R rfl _) dX3_init_57 ?_
  refine rk_of (fun _ _ _ _ _ k => lr_aload_n hx hb dX3_init_60 rfl (lv_at hl 0 rfl) (lv_sipush (v := 400) hx hb dX3_init_61 rfl k)) ?_
  refine rk_newa C (atype := .int) rfl 0 rfl (fun _ _ h => h) (fun _ _ => rfl) q1076 dX3_init_64 (fun v64 => ?_)
  refine rk_put C H.2.2.1 (hc_X3 H) (k := 15) (Nat.le_of_ble_eq_true rfl) in_X3 (ty0 := tyX3) tyX3_ok nmX3 q2592 (fun _ h => h) (Or.inr ⟨rfl, rfl, rfl⟩) (zn_R rfl _) (zp_R rfl _) dX3_init_66 ?_
  refine rk_of (fun _ _ _ _ _ k => lr_aload_n hx hb dX3_init_69 rfl (lv_at hl 0 rfl) (lv_bipush (v := 60) hx hb dX3_init_70 rfl k)) ?_
  refine rk_newa C (atype := .int) rfl 0 rfl (fun _ _ h => h) (fun _ _ => rfl) q1076 dX3_init_72 (fun v72 => ?_)
  refine rk_put C H.2.2.1 (hc_X3 H) (k := 17) (Nat.le_of_ble_eq_true rfl) in_X3 (ty0 := tyX3) tyX3_ok nmX3 q2594 (fun _ h => h) (Or.inr ⟨rfl, rfl, rfl⟩) (zn_R rfl _) (zp_R rfl _) dX3_init_74 ?_
  refine rk_of (fun _ _ _ _ _ k => lr_aload_n hx hb dX3_init_77 rfl (lv_at hl 0 rfl) (lv_bipush (v := 60) hx hb dX3_init_78 rfl k)) ?_
  refine rk_newa C (atype := .int) rfl 0 rfl (fun _ _ h => h) (fun _ _ => rfl) q1076 dX3_init_80 (fun v80 => ?_)
  refine rk_put C H.2.2.1 (hc_X3 H) (k := 18) (Nat.le_of_ble_eq_true rfl) in_X3 (ty0 := tyX3) tyX3_ok nmX3 q2595 (fun _ h => h) (Or.inr ⟨rfl, rfl, rfl⟩) (zn_R rfl _) (zp_R rfl _) dX3_init_82 ?_
  exact rk_top (rf_vret C dX3_init_85)
theorem hd_X3_isIn : yX3_isIn.cls ≠ "java/lang/invoke/MethodHandle" ∧ yX3_isIn.cls ≠ "java/lang/invoke/VarHandle" ∧ (parseMethodDescriptor yX3_isIn.desc).map (fun d => d.parameters.length) = some 3 := by decide +kernel
noncomputable def fn_X3_isIn (K : zm_K) (a0 : Int32) (a1 : Int32) (a2 : Int32) : zm_M Int32 :=
  if a0 < a1 then
    zm_ret 0
  else
    if a2 < a0 then
      zm_ret 0
    else
      zm_ret 1
theorem ct_X3_isIn {l : Launch} {Ω : zm_W} {K : zm_K} (H : zm_H Ω K) (a0 : Int32) (a1 : Int32) (a2 : Int32) : zm_Ct l Ω yX3_isIn (ws_ yX3_isIn cX3_isIn 3 (Option.some Jvm.ClassFile.FieldType.boolean)) 1 64 [.int a0, .int a1, .int a2] zm_tvI (fn_X3_isIn K a0 a1 a2) := by
  refine zm_ct H.1 (by decide +kernel) (zl_le (zl_I (zl_I (zl_I zl_nil))) (Nat.le_of_ble_eq_true rfl)) ?_
  intro p e R s m args below meth c n0 k0 C hX ls hl
  have hx := C.1
  have hb := C.2.1
  simp only [zg_I, zg_nil] at hl
  have hl : lv_has ls 3 [(0, .int a0), (1, .int a1), (2, .int a2)] := hl
  refine rk_rf ?_
  unfold fn_X3_isIn
  refine rk_ite (fun _ _ _ _ _ k1 k2 => lv_iload_n hx hb dX3_isIn_0 rfl (lv_at hl 0 rfl) (lv_iload_n hx hb dX3_isIn_1 rfl (lv_at hl 1 rfl) (lv_icmp_lt (tgt := 14) hx hb dX3_isIn_2 (by decide) k1 k2))) (fun c_2 => ?_) (fun c_2 => ?_)
  · refine rk_of (fun _ _ _ _ _ k => lv_iconst (v := 0) hx hb dX3_isIn_14 rfl k) ?_
    exact rk_top (rf_iret C rfl dX3_isIn_15)
  · refine rk_ite (fun _ _ _ _ _ k1 k2 => lv_iload_n hx hb dX3_isIn_5 rfl (lv_at hl 0 rfl) (lv_iload_n hx hb dX3_isIn_6 rfl (lv_at hl 2 rfl) (lv_icmp_gt (tgt := 14) hx hb dX3_isIn_7 (by decide) k1 k2))) (fun c_7 => ?_) (fun c_7 => ?_)
    · refine rk_of (fun _ _ _ _ _ k => lv_iconst (v := 0) hx hb dX3_isIn_14 rfl k) ?_
      exact rk_top (rf_iret C rfl dX3_isIn_15)
    · refine rk_of (fun _ _ _ _ _ k => lv_iconst (v := 1) hx hb dX3_isIn_10 rfl (lv_goto (tgt := 15) hx hb dX3_isIn_11 (by decide) k)) ?_
      exact rk_top (rf_iret C rfl dX3_isIn_15)
theorem hd_X3_isThrown : yX3_isThrown.cls ≠ "java/lang/invoke/MethodHandle" ∧ yX3_isThrown.cls ≠ "java/lang/invoke/VarHandle" ∧ (parseMethodDescriptor yX3_isThrown.desc).map (fun d => d.parameters.length) = some 2 := by decide +kernel
noncomputable def fn_X3_isThrown (K : zm_K) (a0 : zm_R) (a1 : Int32) (a2 : Int32) : zm_M Int32 :=
  zm_bnd (α := Int32) (
      if a1 = 0 then
        zm_ret 0
      else
        zm_ret a2
    ) fun b10 =>
  zm_bnd (zm_putF K a0 20 5 (.int b10)) fun _ =>
  zm_bnd (zm_grd (a1 = 0 ∨ a1 = 1)) fun _ =>
  zm_ret a1
theorem ct_X3_isThrown {l : Launch} {Ω : zm_W} {K : zm_K} (H : zm_H Ω K) (a0 : zm_R) (a1 : Int32) (a2 : Int32) : zm_Ct l Ω yX3_isThrown (ws_ yX3_isThrown cX3_isThrown 3 (Option.some Jvm.ClassFile.FieldType.boolean)) 1 64 [va_rf a0, .int a1, .int a2] zm_tvI (fn_X3_isThrown K a0 a1 a2) := by
  refine zm_ct H.1 (by decide +kernel) (zl_le (zl_R (zl_I (zl_I zl_nil))) (Nat.le_of_ble_eq_true rfl)) ?_
  intro p e R s m args below meth c n0 k0 C hX ls hl
  have hx := C.1
  have hb := C.2.1
  simp only [zg_I, zg_R, zg_nil] at hl
  have hl : lv_has ls 3 [(0, va_rf a0), (1, .int a1), (2, .int a2)] := hl
  refine rk_rf ?_
  unfold fn_X3_isThrown
  refine rk_of (fun _ _ _ _ _ k => lr_aload_n hx hb dX3_isThrown_0 rfl (lv_at hl 0 rfl) (lv_iload_n hx hb dX3_isThrown_1 rfl (lv_at hl 1 rfl) k)) ?_
  refine rk_join (β := Int32) (fun (b10 : Int32) ls => lv_has ls 3 [(1, .int a1)]) (fun (b10 : Int32) ls => F0 m 10 ls [.int b10, va_rf a0]) (fun b10 ls hl => ?_) (fun hJ10 => ?_)
  · refine rk_put C H.2.2.1 (hc_X3 H) (k := 5) (Nat.le_of_ble_eq_true rfl) in_X3 (ty0 := tyX3) tyX3_ok nmX3 q2582 (fun _ h => h) (Or.inl rfl) rfl rfl dX3_isThrown_10 ?_
    refine rk_of (fun _ _ _ _ _ k => lv_iload_n hx hb dX3_isThrown_13 rfl (lv_at hl 0 rfl) k) ?_
    refine rk_grd (fun hg_14 => ?_)
    exact rk_top (rf_iret C (zn_Z hg_14) dX3_isThrown_14)
  · refine rk_ite (fun _ _ _ _ _ k1 k2 => lv_if_eq (tgt := 9) hx hb dX3_isThrown_2 (by decide) k1 k2) (fun c_2 => ?_) (fun c_2 => ?_)
    · refine rk_of (fun _ _ _ _ _ k => lv_iconst (v := 0) hx hb dX3_isThrown_9 rfl k) ?_
      exact hJ10 0 ls (lv_sub hl [1] rfl)
    · refine rk_of (fun _ _ _ _ _ k => lv_iload_n hx hb dX3_isThrown_5 rfl (lv_at hl 2 rfl) (lv_goto (tgt := 10) hx hb dX3_isThrown_6 (by decide) k)) ?_
      exact hJ10 a2 ls (lv_sub hl [1] rfl)
theorem hd_X3_lettingAt : yX3_lettingAt.cls ≠ "java/lang/invoke/MethodHandle" ∧ yX3_lettingAt.cls ≠ "java/lang/invoke/VarHandle" ∧ (parseMethodDescriptor yX3_lettingAt.desc).map (fun d => d.parameters.length) = some 2 := by decide +kernel
noncomputable def fn_X3_lettingAt (K : zm_K) (a0 : Int32) (a1 : Int32) : zm_M Int32 :=
  zm_ret ((11 + (5 * a0)) + a1)
theorem ct_X3_lettingAt {l : Launch} {Ω : zm_W} {K : zm_K} (H : zm_H Ω K) (a0 : Int32) (a1 : Int32) : zm_Ct l Ω yX3_lettingAt (ws_ yX3_lettingAt cX3_lettingAt 2 (Option.some Jvm.ClassFile.FieldType.int)) 1 64 [.int a0, .int a1] zm_tvI (fn_X3_lettingAt K a0 a1) := by
  refine zm_ct H.1 (by decide +kernel) (zl_le (zl_I (zl_I zl_nil)) (Nat.le_of_ble_eq_true rfl)) ?_
  intro p e R s m args below meth c n0 k0 C hX ls hl
  have hx := C.1
  have hb := C.2.1
  simp only [zg_I, zg_nil] at hl
  have hl : lv_has ls 2 [(0, .int a0), (1, .int a1)] := hl
  refine rk_rf ?_
  unfold fn_X3_lettingAt
  refine rk_of (fun _ _ _ _ _ k => lv_bipush (v := 11) hx hb dX3_lettingAt_0 rfl (lv_iconst (v := 5) hx hb dX3_lettingAt_2 rfl (lv_iload_n hx hb dX3_lettingAt_3 rfl (lv_at hl 0 rfl) (lv_imul hx hb dX3_lettingAt_4 (lv_iadd hx hb dX3_lettingAt_5 (lv_iload_n hx hb dX3_lettingAt_6 rfl (lv_at hl 1 rfl) (lv_iadd hx hb dX3_lettingAt_7 k))))))) ?_
  exact rk_top (rf_iret C rfl dX3_lettingAt_8)
theorem hd_X3_ofLetting : yX3_ofLetting.cls ≠ "java/lang/invoke/MethodHandle" ∧ yX3_ofLetting.cls ≠ "java/lang/invoke/VarHandle" ∧ (parseMethodDescriptor yX3_ofLetting.desc).map (fun d => d.parameters.length) = some 2 := by decide +kernel
noncomputable def fn_X3_ofLetting (K : zm_K) (a0 : zm_R) (a1 : Int32) (a2 : Int32) : zm_M Int32 :=
  zm_bnd (zm_getR a0 20 0) fun v1 =>
  zm_bnd (fn_X3_lettingAt K a1 a2) fun v6 =>
  zm_bnd (zm_aldI .int v1 v6) fun v9 =>
  zm_ret v9
theorem ct_X3_ofLetting {l : Launch} {Ω : zm_W} {K : zm_K} (H : zm_H Ω K) (a0 : zm_R) (a1 : Int32) (a2 : Int32) : zm_Ct l Ω yX3_ofLetting (ws_ yX3_ofLetting cX3_ofLetting 3 (Option.some Jvm.ClassFile.FieldType.int)) 2 85 [va_rf a0, .int a1, .int a2] zm_tvI (fn_X3_ofLetting K a0 a1 a2) := by
  refine zm_ct H.1 (by decide +kernel) (zl_le (zl_R (zl_I (zl_I zl_nil))) (Nat.le_of_ble_eq_true rfl)) ?_
  intro p e R s m args below meth c n0 k0 C hX ls hl
  have hx := C.1
  have hb := C.2.1
  simp only [zg_I, zg_R, zg_nil] at hl
  have hl : lv_has ls 3 [(0, va_rf a0), (1, .int a1), (2, .int a2)] := hl
  refine rk_rf ?_
  unfold fn_X3_ofLetting
  refine rk_of (fun _ _ _ _ _ k => lr_aload_n hx hb dX3_ofLetting_0 rfl (lv_at hl 0 rfl) k) ?_
  refine rk_get zm_rdR_eq C (hc_X3 H) (k := 0) (Nat.le_of_ble_eq_true rfl) in_X3 q2577 (fun _ h => h) dX3_ofLetting_1 (fun v1 => ?_)
  refine rk_of (fun _ _ _ _ _ k => lv_iload_n hx hb dX3_ofLetting_4 rfl (lv_at hl 1 rfl) (lv_iload_n hx hb dX3_ofLetting_5 rfl (lv_at hl 2 rfl) k)) ?_
  refine rk_callI hX (cl_S (rest := [va_rf v1]) C (ct_X3_lettingAt H a1 a2) (lw_S q2711 q2712 q112 q2713) hd_X3_lettingAt ⟨(Nat.le_of_ble_eq_true rfl), (Nat.le_of_ble_eq_true rfl)⟩ rfl hl.1 rfl (zw_le (zw_R zw_nil) (Nat.le_of_ble_eq_true rfl)) dX3_ofLetting_6) (fun v6 => ?_)
  refine rk_iald C dX3_ofLetting_9 (fun v9 => ?_)
  exact rk_top (rf_iret C rfl dX3_ofLetting_10)
theorem hd_X3_isOver : yX3_isOver.cls ≠ "java/lang/invoke/MethodHandle" ∧ yX3_isOver.cls ≠ "java/lang/invoke/VarHandle" ∧ (parseMethodDescriptor yX3_isOver.desc).map (fun d => d.parameters.length) = some 1 := by decide +kernel
noncomputable def fn_X3_isOver (K : zm_K) (a0 : zm_R) (a1 : Int32) : zm_M Int32 :=
  zm_bnd (zm_bnd (zm_is a0 20) fun _ => fn_X3_ofLetting K a0 a1 4) fun v3 =>
  if v3 = 1 then
    zm_ret 1
  else
    zm_ret 0
theorem ct_X3_isOver {l : Launch} {Ω : zm_W} {K : zm_K} (H : zm_H Ω K) (a0 : zm_R) (a1 : Int32) : zm_Ct l Ω yX3_isOver (ws_ yX3_isOver cX3_isOver 2 (Option.some Jvm.ClassFile.FieldType.boolean)) 3 107 [va_rf a0, .int a1] zm_tvI (fn_X3_isOver K a0 a1) := by
  refine zm_ct H.1 (by decide +kernel) (zl_le (zl_R (zl_I zl_nil)) (Nat.le_of_ble_eq_true rfl)) ?_
  intro p e R s m args below meth c n0 k0 C hX ls hl
  have hx := C.1
  have hb := C.2.1
  simp only [zg_I, zg_R, zg_nil] at hl
  have hl : lv_has ls 2 [(0, va_rf a0), (1, .int a1)] := hl
  refine rk_rf ?_
  unfold fn_X3_isOver
  refine rk_of (fun _ _ _ _ _ k => lr_aload_n hx hb dX3_isOver_0 rfl (lv_at hl 0 rfl) (lv_iload_n hx hb dX3_isOver_1 rfl (lv_at hl 1 rfl) (lv_iconst (v := 4) hx hb dX3_isOver_2 rfl k))) ?_
  refine rk_callI hX (cl_V (rest := []) (av := [.int a1, .int 4]) C (hc_X3 H) (ct_X3_ofLetting H a0 a1 4) (lw_V q2707 q2709 qs54 q112 q2710) ⟨rfl, hd_X3_ofLetting⟩ ⟨(Nat.le_of_ble_eq_true rfl), (Nat.le_of_ble_eq_true rfl)⟩ rfl hl.1 rfl (zw_le zw_nil (Nat.le_of_ble_eq_true rfl)) dX3_isOver_3) (fun v3 => ?_)
  refine rk_ite (fun _ _ _ _ _ k1 k2 => lv_iconst (v := 1) hx hb dX3_isOver_6 rfl (lv_icmp_ne (tgt := 14) hx hb dX3_isOver_7 (by decide) k2 k1)) (fun c_7 => ?_) (fun c_7 => ?_)
  · refine rk_of (fun _ _ _ _ _ k => lv_iconst (v := 1) hx hb dX3_isOver_10 rfl (lv_goto (tgt := 15) hx hb dX3_isOver_11 (by decide) k)) ?_
    exact rk_top (rf_iret C rfl dX3_isOver_15)
  · refine rk_of (fun _ _ _ _ _ k => lv_iconst (v := 0) hx hb dX3_isOver_14 rfl k) ?_
    exact rk_top (rf_iret C rfl dX3_isOver_15)
theorem hd_X3_allLettings : yX3_allLettings.cls ≠ "java/lang/invoke/MethodHandle" ∧ yX3_allLettings.cls ≠ "java/lang/invoke/VarHandle" ∧ (parseMethodDescriptor yX3_allLettings.desc).map (fun d => d.parameters.length) = some 0 := by decide +kernel
noncomputable def fn_X3_allLettings_4 (K : zm_K) (p0 : zm_R) : Nat → Int32 → Int32 → zm_M (Int32)
  | 0, _, _ => zm_fl
  | n + 1, x1, x2 =>
    zm_bnd (zm_getR p0 20 0) fun v6 =>
    zm_bnd (zm_aldI .int v6 1) fun v10 =>
    if v10 ≤ x2 then
      zm_ret x1
    else
      zm_bnd (zm_bnd (zm_is p0 20) fun _ => fn_X3_isOver K p0 x2) fun v17 =>
      zm_bnd (α := Int32) (
          if v17 = 0 then
            zm_ret 1
          else
            zm_ret 0
        ) fun b28 =>
      fn_X3_allLettings_4 K p0 n (x1 + b28) (x2 + 1)
noncomputable def fn_X3_allLettings (K : zm_K) (a0 : zm_R) : zm_M Int32 :=
  zm_bnd (α := Int32) (fn_X3_allLettings_4 K a0 zm_N 0 0) fun b36 =>
  zm_ret b36
theorem rf_X3_allLettings_4 (H : zm_H Ω K) (C : zm_C p l R s m args meth c Ω lw_all cX3_allLettings yX3_allLettings.cls yX3_allLettings.name 3 4 128 (Option.some Jvm.ClassFile.FieldType.int)) (hX : zm_XO p l e R s m args below meth c Ω n0 k0 (zm_QFs below args s Ω n0 k0 zm_tvI)) (p0 : zm_R) : ∀ (n : Nat) (x1 : Int32) (x2 : Int32) (J : (Int32) → zm_M Int32) (ls : Array Slot), lv_has ls 3 [(0, va_rf p0), (1, .int x1), (2, .int x2)] → (∀ (b : Int32) (ls : Array Slot), lv_has ls 3 [(1, .int b)] → zm_RK p l e R s m args below meth c Ω n0 k0 (zm_QFs below args s Ω n0 k0 zm_tvI) (zm_ret b) J (F0 m 36 ls [])) → zm_RK p l e R s m args below meth c Ω n0 k0 (zm_QFs below args s Ω n0 k0 zm_tvI) (fn_X3_allLettings_4 K p0 n x1 x2) J (F0 m 4 ls []) := by
  have hx := C.1
  have hb := C.2.1
  intro n
  induction n with
  | zero => intro x1 x2 J ls hl hJ; exact rk_fl
  | succ n ih =>
    intro x1 x2 J ls hl hJ
    unfold fn_X3_allLettings_4
    refine rk_of (fun _ _ _ _ _ k => lv_iload_n hx hb dX3_allLettings_4 rfl (lv_at hl 2 rfl) (lr_aload_n hx hb dX3_allLettings_5 rfl (lv_at hl 0 rfl) k)) ?_
    refine rk_get zm_rdR_eq C (hc_X3 H) (k := 0) (Nat.le_of_ble_eq_true rfl) in_X3 q2577 (fun _ h => h) dX3_allLettings_6 (fun v6 => ?_)
    refine rk_of (fun _ _ _ _ _ k => lv_iconst (v := 1) hx hb dX3_allLettings_9 rfl k) ?_
    refine rk_iald C dX3_allLettings_10 (fun v10 => ?_)
    refine rk_ite (fun _ _ _ _ _ k1 k2 => lv_icmp_ge (tgt := 36) hx hb dX3_allLettings_11 (by decide) k1 k2) (fun c_11 => ?_) (fun c_11 => ?_)
    · exact hJ x1 ls (lv_sub hl [1] rfl)
    · refine rk_of (fun _ _ _ _ _ k => lv_iload_n hx hb dX3_allLettings_14 rfl (lv_at hl 1 rfl) (lr_aload_n hx hb dX3_allLettings_15 rfl (lv_at hl 0 rfl) (lv_iload_n hx hb dX3_allLettings_16 rfl (lv_at hl 2 rfl) k))) ?_
      refine rk_callI hX (cl_V (rest := [.int x1]) (av := [.int x2]) C (hc_X3 H) (ct_X3_isOver H p0 x2) (lw_V q2703 q2705 qs53 q112 q2706) ⟨rfl, hd_X3_isOver⟩ ⟨(Nat.le_of_ble_eq_true rfl), (Nat.le_of_ble_eq_true rfl)⟩ rfl hl.1 rfl (zw_le (zw_I zw_nil) (Nat.le_of_ble_eq_true rfl)) dX3_allLettings_17) (fun v17 => ?_)
      refine rk_join (β := Int32) (fun (b28 : Int32) ls => lv_has ls 3 [(0, va_rf p0), (2, .int x2)]) (fun (b28 : Int32) ls => F0 m 28 ls [.int b28, .int x1]) (fun b28 ls hl => ?_) (fun hJ28 => ?_)
      · refine rk_ofs (fun _ _ _ _ _ k => lv_iadd hx hb dX3_allLettings_28 (lr_istore_n hx hb dX3_allLettings_29 rfl hl (Nat.le_of_ble_eq_true rfl) [0, 1] rfl ⟨va_rf_cat _, ⟨trivial, trivial⟩⟩ k)) (fun ls hl => ?_)
        refine rk_ofs (fun _ _ _ _ _ k => lr_iinc (v := x2 + 1) hx hb dX3_allLettings_30 hl (k := 2) rfl rfl (Nat.le_of_ble_eq_true rfl) [0, 1] rfl ⟨rfl, ⟨trivial, trivial⟩⟩ k) (fun ls hl => ?_)
        refine rk_of (fun _ _ _ _ _ k => lv_goto (tgt := 4) hx hb dX3_allLettings_33 (by decide) k) ?_
        exact ih (x1 + b28) (x2 + 1) J ls (lv_sub hl [2, 1, 0] rfl) hJ
      · refine rk_ite (fun _ _ _ _ _ k1 k2 => lv_if_eq (tgt := 27) hx hb dX3_allLettings_20 (by decide) k1 k2) (fun c_20 => ?_) (fun c_20 => ?_)
        · refine rk_of (fun _ _ _ _ _ k => lv_iconst (v := 1) hx hb dX3_allLettings_27 rfl k) ?_
          exact hJ28 1 ls (lv_sub hl [0, 2] rfl)
        · refine rk_of (fun _ _ _ _ _ k => lv_iconst (v := 0) hx hb dX3_allLettings_23 rfl (lv_goto (tgt := 28) hx hb dX3_allLettings_24 (by decide) k)) ?_
          exact hJ28 0 ls (lv_sub hl [0, 2] rfl)
theorem ct_X3_allLettings {l : Launch} {Ω : zm_W} {K : zm_K} (H : zm_H Ω K) (a0 : zm_R) : zm_Ct l Ω yX3_allLettings (ws_ yX3_allLettings cX3_allLettings 3 (Option.some Jvm.ClassFile.FieldType.int)) 4 128 [va_rf a0] zm_tvI (fn_X3_allLettings K a0) := by
  refine zm_ct H.1 (by decide +kernel) (zl_le (zl_R zl_nil) (Nat.le_of_ble_eq_true rfl)) ?_
  intro p e R s m args below meth c n0 k0 C hX ls hl
  have hx := C.1
  have hb := C.2.1
  simp only [zg_R, zg_nil] at hl
  have hl : lv_has ls 3 [(0, va_rf a0)] := hl
  refine rk_rf ?_
  unfold fn_X3_allLettings
  refine rk_ofs (fun _ _ _ _ _ k => lv_iconst (v := 0) hx hb dX3_allLettings_0 rfl (lr_istore_n hx hb dX3_allLettings_1 rfl hl (Nat.le_of_ble_eq_true rfl) [0] rfl ⟨va_rf_cat _, trivial⟩ k)) (fun ls hl => ?_)
  refine rk_ofs (fun _ _ _ _ _ k => lv_iconst (v := 0) hx hb dX3_allLettings_2 rfl (lr_istore_n hx hb dX3_allLettings_3 rfl hl (Nat.le_of_ble_eq_true rfl) [0, 1] rfl ⟨rfl, ⟨trivial, trivial⟩⟩ k)) (fun ls hl => ?_)
  refine rk_join (β := Int32) (fun (b36 : Int32) ls => lv_has ls 3 [(1, .int b36)]) (fun (b36 : Int32) ls => F0 m 36 ls []) (fun b36 ls hl => ?_) (fun hJ36 => ?_)
  · refine rk_of (fun _ _ _ _ _ k => lv_iload_n hx hb dX3_allLettings_36 rfl (lv_at hl 0 rfl) k) ?_
    exact rk_top (rf_iret C rfl dX3_allLettings_37)
  · exact rf_X3_allLettings_4 H C hX a0 zm_N 0 0 _ ls (lv_sub hl [2, 1, 0] rfl) hJ36
theorem hd_X3_lesser : yX3_lesser.cls ≠ "java/lang/invoke/MethodHandle" ∧ yX3_lesser.cls ≠ "java/lang/invoke/VarHandle" ∧ (parseMethodDescriptor yX3_lesser.desc).map (fun d => d.parameters.length) = some 2 := by decide +kernel
noncomputable def fn_X3_lesser (K : zm_K) (a0 : Int32) (a1 : Int32) : zm_M Int32 :=
  if a1 ≤ a0 then
    zm_ret a1
  else
    zm_ret a0
theorem ct_X3_lesser {l : Launch} {Ω : zm_W} {K : zm_K} (H : zm_H Ω K) (a0 : Int32) (a1 : Int32) : zm_Ct l Ω yX3_lesser (ws_ yX3_lesser cX3_lesser 2 (Option.some Jvm.ClassFile.FieldType.int)) 1 64 [.int a0, .int a1] zm_tvI (fn_X3_lesser K a0 a1) := by
  refine zm_ct H.1 (by decide +kernel) (zl_le (zl_I (zl_I zl_nil)) (Nat.le_of_ble_eq_true rfl)) ?_
  intro p e R s m args below meth c n0 k0 C hX ls hl
  have hx := C.1
  have hb := C.2.1
  simp only [zg_I, zg_nil] at hl
  have hl : lv_has ls 2 [(0, .int a0), (1, .int a1)] := hl
  refine rk_rf ?_
  unfold fn_X3_lesser
  refine rk_ite (fun _ _ _ _ _ k1 k2 => lv_iload_n hx hb dX3_lesser_0 rfl (lv_at hl 0 rfl) (lv_iload_n hx hb dX3_lesser_1 rfl (lv_at hl 1 rfl) (lv_icmp_ge (tgt := 9) hx hb dX3_lesser_2 (by decide) k1 k2))) (fun c_2 => ?_) (fun c_2 => ?_)
  · refine rk_of (fun _ _ _ _ _ k => lv_iload_n hx hb dX3_lesser_9 rfl (lv_at hl 1 rfl) k) ?_
    exact rk_top (rf_iret C rfl dX3_lesser_10)
  · refine rk_of (fun _ _ _ _ _ k => lv_iload_n hx hb dX3_lesser_5 rfl (lv_at hl 0 rfl) (lv_goto (tgt := 10) hx hb dX3_lesser_6 (by decide) k)) ?_
    exact rk_top (rf_iret C rfl dX3_lesser_10)
theorem hd_X3_greater : yX3_greater.cls ≠ "java/lang/invoke/MethodHandle" ∧ yX3_greater.cls ≠ "java/lang/invoke/VarHandle" ∧ (parseMethodDescriptor yX3_greater.desc).map (fun d => d.parameters.length) = some 2 := by decide +kernel
noncomputable def fn_X3_greater (K : zm_K) (a0 : Int32) (a1 : Int32) : zm_M Int32 :=
  if a0 ≤ a1 then
    zm_ret a1
  else
    zm_ret a0
theorem ct_X3_greater {l : Launch} {Ω : zm_W} {K : zm_K} (H : zm_H Ω K) (a0 : Int32) (a1 : Int32) : zm_Ct l Ω yX3_greater (ws_ yX3_greater cX3_greater 2 (Option.some Jvm.ClassFile.FieldType.int)) 1 64 [.int a0, .int a1] zm_tvI (fn_X3_greater K a0 a1) := by
  refine zm_ct H.1 (by decide +kernel) (zl_le (zl_I (zl_I zl_nil)) (Nat.le_of_ble_eq_true rfl)) ?_
  intro p e R s m args below meth c n0 k0 C hX ls hl
  have hx := C.1
  have hb := C.2.1
  simp only [zg_I, zg_nil] at hl
  have hl : lv_has ls 2 [(0, .int a0), (1, .int a1)] := hl
  refine rk_rf ?_
  unfold fn_X3_greater
  refine rk_ite (fun _ _ _ _ _ k1 k2 => lv_iload_n hx hb dX3_greater_0 rfl (lv_at hl 0 rfl) (lv_iload_n hx hb dX3_greater_1 rfl (lv_at hl 1 rfl) (lv_icmp_le (tgt := 9) hx hb dX3_greater_2 (by decide) k1 k2))) (fun c_2 => ?_) (fun c_2 => ?_)
  · refine rk_of (fun _ _ _ _ _ k => lv_iload_n hx hb dX3_greater_9 rfl (lv_at hl 1 rfl) k) ?_
    exact rk_top (rf_iret C rfl dX3_greater_10)
  · refine rk_of (fun _ _ _ _ _ k => lv_iload_n hx hb dX3_greater_5 rfl (lv_at hl 0 rfl) (lv_goto (tgt := 10) hx hb dX3_greater_6 (by decide) k)) ?_
    exact rk_top (rf_iret C rfl dX3_greater_10)
theorem hd_X3_letIn : yX3_letIn.cls ≠ "java/lang/invoke/MethodHandle" ∧ yX3_letIn.cls ≠ "java/lang/invoke/VarHandle" ∧ (parseMethodDescriptor yX3_letIn.desc).map (fun d => d.parameters.length) = some 3 := by decide +kernel
noncomputable def fn_X3_letIn_6 (K : zm_K) (p0 : zm_R) (p1 : Int32) (p2 : Int32) (p3 : Int32) : Nat → Int32 → Int32 → zm_M (Int32)
  | 0, _, _ => zm_fl
  | n + 1, x4, x5 =>
    zm_bnd (zm_getR p0 20 0) fun v9 =>
    zm_bnd (zm_aldI .int v9 1) fun v13 =>
    if v13 ≤ x5 then
      zm_ret x4
    else
      zm_bnd (zm_bnd (zm_is p0 20) fun _ => fn_X3_isOver K p0 x5) fun v20 =>
      zm_bnd (α := Int32) (
          if v20 = 0 then
            zm_bnd (zm_bnd (zm_is p0 20) fun _ => fn_X3_ofLetting K p0 x5 0) fun v30 =>
            if v30 = p1 then
              zm_bnd (zm_bnd (zm_is p0 20) fun _ => fn_X3_ofLetting K p0 x5 2) fun v45 =>
              zm_bnd (fn_X3_lesser K p3 v45) fun v48 =>
              zm_bnd (zm_bnd (zm_is p0 20) fun _ => fn_X3_ofLetting K p0 x5 1) fun v56 =>
              zm_bnd (fn_X3_greater K p2 v56) fun v59 =>
              zm_bnd (fn_X3_greater K 0 (v48 - v59)) fun v63 =>
              zm_ret (x4 + v63)
            else
              zm_ret x4
          else
            zm_ret x4
        ) fun b69 =>
      fn_X3_letIn_6 K p0 p1 p2 p3 n b69 (x5 + 1)
noncomputable def fn_X3_letIn (K : zm_K) (a0 : zm_R) (a1 : Int32) (a2 : Int32) (a3 : Int32) : zm_M Int32 :=
  zm_bnd (α := Int32) (fn_X3_letIn_6 K a0 a1 a2 a3 zm_N 0 0) fun b75 =>
  zm_ret b75
theorem rf_X3_letIn_6 (H : zm_H Ω K) (C : zm_C p l R s m args meth c Ω lw_all cX3_letIn yX3_letIn.cls yX3_letIn.name 6 4 128 (Option.some Jvm.ClassFile.FieldType.int)) (hX : zm_XO p l e R s m args below meth c Ω n0 k0 (zm_QFs below args s Ω n0 k0 zm_tvI)) (p0 : zm_R) (p1 : Int32) (p2 : Int32) (p3 : Int32) : ∀ (n : Nat) (x4 : Int32) (x5 : Int32) (J : (Int32) → zm_M Int32) (ls : Array Slot), lv_has ls 6 [(0, va_rf p0), (1, .int p1), (2, .int p2), (3, .int p3), (4, .int x4), (5, .int x5)] → (∀ (b : Int32) (ls : Array Slot), lv_has ls 6 [(4, .int b)] → zm_RK p l e R s m args below meth c Ω n0 k0 (zm_QFs below args s Ω n0 k0 zm_tvI) (zm_ret b) J (F0 m 75 ls [])) → zm_RK p l e R s m args below meth c Ω n0 k0 (zm_QFs below args s Ω n0 k0 zm_tvI) (fn_X3_letIn_6 K p0 p1 p2 p3 n x4 x5) J (F0 m 6 ls []) := by
  have hx := C.1
  have hb := C.2.1
  intro n
  induction n with
  | zero => intro x4 x5 J ls hl hJ; exact rk_fl
  | succ n ih =>
    intro x4 x5 J ls hl hJ
    unfold fn_X3_letIn_6
    refine rk_of (fun _ _ _ _ _ k => lv_iload hx hb dX3_letIn_6 (lv_at hl 5 rfl) (lr_aload_n hx hb dX3_letIn_8 rfl (lv_at hl 0 rfl) k)) ?_
    refine rk_get zm_rdR_eq C (hc_X3 H) (k := 0) (Nat.le_of_ble_eq_true rfl) in_X3 q2577 (fun _ h => h) dX3_letIn_9 (fun v9 => ?_)
    refine rk_of (fun _ _ _ _ _ k => lv_iconst (v := 1) hx hb dX3_letIn_12 rfl k) ?_
    refine rk_iald C dX3_letIn_13 (fun v13 => ?_)
    refine rk_ite (fun _ _ _ _ _ k1 k2 => lv_icmp_ge (tgt := 75) hx hb dX3_letIn_14 (by decide) k1 k2) (fun c_14 => ?_) (fun c_14 => ?_)
    · exact hJ x4 ls (lv_sub hl [4] rfl)
    · refine rk_of (fun _ _ _ _ _ k => lr_aload_n hx hb dX3_letIn_17 rfl (lv_at hl 0 rfl) (lv_iload hx hb dX3_letIn_18 (lv_at hl 5 rfl) k)) ?_
      refine rk_callI hX (cl_V (rest := []) (av := [.int x5]) C (hc_X3 H) (ct_X3_isOver H p0 x5) (lw_V q2703 q2705 qs53 q112 q2706) ⟨rfl, hd_X3_isOver⟩ ⟨(Nat.le_of_ble_eq_true rfl), (Nat.le_of_ble_eq_true rfl)⟩ rfl hl.1 rfl (zw_le zw_nil (Nat.le_of_ble_eq_true rfl)) dX3_letIn_20) (fun v20 => ?_)
      refine rk_join (β := Int32) (fun (b69 : Int32) ls => lv_has ls 6 [(0, va_rf p0), (1, .int p1), (2, .int p2), (3, .int p3), (4, .int b69), (5, .int x5)]) (fun (b69 : Int32) ls => F0 m 69 ls []) (fun b69 ls hl => ?_) (fun hJ69 => ?_)
      · refine rk_ofs (fun _ _ _ _ _ k => lr_iinc (v := x5 + 1) hx hb dX3_letIn_69 hl (k := 5) rfl rfl (Nat.le_of_ble_eq_true rfl) [0, 1, 2, 3, 4] rfl ⟨trivial, ⟨trivial, ⟨trivial, ⟨trivial, ⟨rfl, trivial⟩⟩⟩⟩⟩ k) (fun ls hl => ?_)
        refine rk_of (fun _ _ _ _ _ k => lv_goto (tgt := 6) hx hb dX3_letIn_72 (by decide) k) ?_
        exact ih b69 (x5 + 1) J ls (lv_sub hl [1, 2, 3, 4, 5, 0] rfl) hJ
      · refine rk_ite (fun _ _ _ _ _ k1 k2 => lv_if_ne (tgt := 69) hx hb dX3_letIn_23 (by decide) k2 k1) (fun c_23 => ?_) (fun c_23 => ?_)
        · refine rk_of (fun _ _ _ _ _ k => lr_aload_n hx hb dX3_letIn_26 rfl (lv_at hl 0 rfl) (lv_iload hx hb dX3_letIn_27 (lv_at hl 5 rfl) (lv_iconst (v := 0) hx hb dX3_letIn_29 rfl k))) ?_
          refine rk_callI hX (cl_V (rest := []) (av := [.int x5, .int 0]) C (hc_X3 H) (ct_X3_ofLetting H p0 x5 0) (lw_V q2707 q2709 qs54 q112 q2710) ⟨rfl, hd_X3_ofLetting⟩ ⟨(Nat.le_of_ble_eq_true rfl), (Nat.le_of_ble_eq_true rfl)⟩ rfl hl.1 rfl (zw_le zw_nil (Nat.le_of_ble_eq_true rfl)) dX3_letIn_30) (fun v30 => ?_)
          refine rk_ite (fun _ _ _ _ _ k1 k2 => lv_iload_n hx hb dX3_letIn_33 rfl (lv_at hl 1 rfl) (lv_icmp_ne (tgt := 69) hx hb dX3_letIn_34 (by decide) k2 k1)) (fun c_34 => ?_) (fun c_34 => ?_)
          · refine rk_of (fun _ _ _ _ _ k => lv_iload hx hb dX3_letIn_37 (lv_at hl 4 rfl) (lv_iconst (v := 0) hx hb dX3_letIn_39 rfl (lv_iload_n hx hb dX3_letIn_40 rfl (lv_at hl 3 rfl) (lr_aload_n hx hb dX3_letIn_41 rfl (lv_at hl 0 rfl) (lv_iload hx hb dX3_letIn_42 (lv_at hl 5 rfl) (lv_iconst (v := 2) hx hb dX3_letIn_44 rfl k)))))) ?_
            refine rk_callI hX (cl_V (rest := [.int p3, .int 0, .int x4]) (av := [.int x5, .int 2]) C (hc_X3 H) (ct_X3_ofLetting H p0 x5 2) (lw_V q2707 q2709 qs54 q112 q2710) ⟨rfl, hd_X3_ofLetting⟩ ⟨(Nat.le_of_ble_eq_true rfl), (Nat.le_of_ble_eq_true rfl)⟩ rfl hl.1 rfl (zw_le (zw_I (zw_I (zw_I zw_nil))) (Nat.le_of_ble_eq_true rfl)) dX3_letIn_45) (fun v45 => ?_)
            refine rk_callI hX (cl_S (rest := [.int 0, .int x4]) C (ct_X3_lesser H p3 v45) (lw_S q2753 q2754 q112 q2755) hd_X3_lesser ⟨(Nat.le_of_ble_eq_true rfl), (Nat.le_of_ble_eq_true rfl)⟩ rfl hl.1 rfl (zw_le (zw_I (zw_I zw_nil)) (Nat.le_of_ble_eq_true rfl)) dX3_letIn_48) (fun v48 => ?_)
            refine rk_of (fun _ _ _ _ _ k => lv_iload_n hx hb dX3_letIn_51 rfl (lv_at hl 2 rfl) (lr_aload_n hx hb dX3_letIn_52 rfl (lv_at hl 0 rfl) (lv_iload hx hb dX3_letIn_53 (lv_at hl 5 rfl) (lv_iconst (v := 1) hx hb dX3_letIn_55 rfl k)))) ?_
            refine rk_callI hX (cl_V (rest := [.int p2, .int v48, .int 0, .int x4]) (av := [.int x5, .int 1]) C (hc_X3 H) (ct_X3_ofLetting H p0 x5 1) (lw_V q2707 q2709 qs54 q112 q2710) ⟨rfl, hd_X3_ofLetting⟩ ⟨(Nat.le_of_ble_eq_true rfl), (Nat.le_of_ble_eq_true rfl)⟩ rfl hl.1 rfl (zw_le (zw_I (zw_I (zw_I (zw_I zw_nil)))) (Nat.le_of_ble_eq_true rfl)) dX3_letIn_56) (fun v56 => ?_)
            refine rk_callI hX (cl_S (rest := [.int v48, .int 0, .int x4]) C (ct_X3_greater H p2 v56) (lw_S q2756 q2757 q112 q2758) hd_X3_greater ⟨(Nat.le_of_ble_eq_true rfl), (Nat.le_of_ble_eq_true rfl)⟩ rfl hl.1 rfl (zw_le (zw_I (zw_I (zw_I zw_nil))) (Nat.le_of_ble_eq_true rfl)) dX3_letIn_59) (fun v59 => ?_)
            refine rk_of (fun _ _ _ _ _ k => lv_isub hx hb dX3_letIn_62 k) ?_
            refine rk_callI hX (cl_S (rest := [.int x4]) C (ct_X3_greater H 0 (v48 - v59)) (lw_S q2756 q2757 q112 q2758) hd_X3_greater ⟨(Nat.le_of_ble_eq_true rfl), (Nat.le_of_ble_eq_true rfl)⟩ rfl hl.1 rfl (zw_le (zw_I zw_nil) (Nat.le_of_ble_eq_true rfl)) dX3_letIn_63) (fun v63 => ?_)
            refine rk_ofs (fun _ _ _ _ _ k => lv_iadd hx hb dX3_letIn_66 (lr_istore hx hb dX3_letIn_67 hl (Nat.le_of_ble_eq_true rfl) [0, 1, 2, 3, 5] rfl ⟨trivial, ⟨trivial, ⟨trivial, ⟨rfl, ⟨trivial, trivial⟩⟩⟩⟩⟩ k)) (fun ls hl => ?_)
            exact hJ69 (x4 + v63) ls (lv_sub hl [1, 2, 3, 4, 0, 5] rfl)
          · exact hJ69 x4 ls (lv_sub hl [0, 1, 2, 3, 4, 5] rfl)
        · exact hJ69 x4 ls (lv_sub hl [0, 1, 2, 3, 4, 5] rfl)
theorem ct_X3_letIn {l : Launch} {Ω : zm_W} {K : zm_K} (H : zm_H Ω K) (a0 : zm_R) (a1 : Int32) (a2 : Int32) (a3 : Int32) : zm_Ct l Ω yX3_letIn (ws_ yX3_letIn cX3_letIn 6 (Option.some Jvm.ClassFile.FieldType.int)) 4 128 [va_rf a0, .int a1, .int a2, .int a3] zm_tvI (fn_X3_letIn K a0 a1 a2 a3) := by
  refine zm_ct H.1 (by decide +kernel) (zl_le (zl_R (zl_I (zl_I (zl_I zl_nil)))) (Nat.le_of_ble_eq_true rfl)) ?_
  intro p e R s m args below meth c n0 k0 C hX ls hl
  have hx := C.1
  have hb := C.2.1
  simp only [zg_I, zg_R, zg_nil] at hl
  have hl : lv_has ls 6 [(0, va_rf a0), (1, .int a1), (2, .int a2), (3, .int a3)] := hl
  refine rk_rf ?_
  unfold fn_X3_letIn
  refine rk_ofs (fun _ _ _ _ _ k => lv_iconst (v := 0) hx hb dX3_letIn_0 rfl (lr_istore hx hb dX3_letIn_1 hl (Nat.le_of_ble_eq_true rfl) [0, 1, 2, 3] rfl ⟨trivial, ⟨trivial, ⟨trivial, ⟨rfl, trivial⟩⟩⟩⟩ k)) (fun ls hl => ?_)
  refine rk_ofs (fun _ _ _ _ _ k => lv_iconst (v := 0) hx hb dX3_letIn_3 rfl (lr_istore hx hb dX3_letIn_4 hl (Nat.le_of_ble_eq_true rfl) [0, 1, 2, 3, 4] rfl ⟨rfl, ⟨trivial, ⟨trivial, ⟨trivial, ⟨trivial, trivial⟩⟩⟩⟩⟩ k)) (fun ls hl => ?_)
  refine rk_join (β := Int32) (fun (b75 : Int32) ls => lv_has ls 6 [(4, .int b75)]) (fun (b75 : Int32) ls => F0 m 75 ls []) (fun b75 ls hl => ?_) (fun hJ75 => ?_)
  · refine rk_of (fun _ _ _ _ _ k => lv_iload hx hb dX3_letIn_75 (lv_at hl 0 rfl) k) ?_
    exact rk_top (rf_iret C rfl dX3_letIn_77)
  · exact rf_X3_letIn_6 H C hX a0 a1 a2 a3 zm_N 0 0 _ ls (lv_sub hl [2, 3, 4, 5, 1, 0] rfl) hJ75
theorem hd_X3_minutesLet : yX3_minutesLet.cls ≠ "java/lang/invoke/MethodHandle" ∧ yX3_minutesLet.cls ≠ "java/lang/invoke/VarHandle" ∧ (parseMethodDescriptor yX3_minutesLet.desc).map (fun d => d.parameters.length) = some 1 := by decide +kernel
noncomputable def fn_X3_minutesLet (K : zm_K) (a0 : zm_R) (a1 : Int32) : zm_M Int32 :=
  zm_bnd (zm_bnd (zm_is a0 20) fun _ => fn_X3_letIn K a0 a1 0 600) fun v6 =>
  zm_ret v6
theorem ct_X3_minutesLet {l : Launch} {Ω : zm_W} {K : zm_K} (H : zm_H Ω K) (a0 : zm_R) (a1 : Int32) : zm_Ct l Ω yX3_minutesLet (ws_ yX3_minutesLet cX3_minutesLet 2 (Option.some Jvm.ClassFile.FieldType.int)) 5 153 [va_rf a0, .int a1] zm_tvI (fn_X3_minutesLet K a0 a1) := by
  refine zm_ct H.1 (by decide +kernel) (zl_le (zl_R (zl_I zl_nil)) (Nat.le_of_ble_eq_true rfl)) ?_
  intro p e R s m args below meth c n0 k0 C hX ls hl
  have hx := C.1
  have hb := C.2.1
  simp only [zg_I, zg_R, zg_nil] at hl
  have hl : lv_has ls 2 [(0, va_rf a0), (1, .int a1)] := hl
  refine rk_rf ?_
  unfold fn_X3_minutesLet
  refine rk_of (fun _ _ _ _ _ k => lr_aload_n hx hb dX3_minutesLet_0 rfl (lv_at hl 0 rfl) (lv_iload_n hx hb dX3_minutesLet_1 rfl (lv_at hl 1 rfl) (lv_iconst (v := 0) hx hb dX3_minutesLet_2 rfl (lv_sipush (v := 600) hx hb dX3_minutesLet_3 rfl k)))) ?_
  refine rk_callI hX (cl_V (rest := []) (av := [.int a1, .int 0, .int 600]) C (hc_X3 H) (ct_X3_letIn H a0 a1 0 600) (lw_V q2874 q2876 qs76 q112 q2877) ⟨rfl, hd_X3_letIn⟩ ⟨(Nat.le_of_ble_eq_true rfl), (Nat.le_of_ble_eq_true rfl)⟩ rfl hl.1 rfl (zw_le zw_nil (Nat.le_of_ble_eq_true rfl)) dX3_minutesLet_6) (fun v6 => ?_)
  exact rk_top (rf_iret C rfl dX3_minutesLet_9)
theorem hd_X3_allMinutes : yX3_allMinutes.cls ≠ "java/lang/invoke/MethodHandle" ∧ yX3_allMinutes.cls ≠ "java/lang/invoke/VarHandle" ∧ (parseMethodDescriptor yX3_allMinutes.desc).map (fun d => d.parameters.length) = some 0 := by decide +kernel
noncomputable def fn_X3_allMinutes_4 (K : zm_K) (p0 : zm_R) : Nat → Int32 → Int32 → zm_M (Int32)
  | 0, _, _ => zm_fl
  | n + 1, x1, x2 =>
    zm_bnd (zm_getR p0 20 0) fun v6 =>
    zm_bnd (zm_aldI .int v6 0) fun v10 =>
    if v10 ≤ x2 then
      zm_ret x1
    else
      zm_bnd (zm_bnd (zm_is p0 20) fun _ => fn_X3_minutesLet K p0 x2) fun v17 =>
      fn_X3_allMinutes_4 K p0 n (x1 + v17) (x2 + 1)
noncomputable def fn_X3_allMinutes (K : zm_K) (a0 : zm_R) : zm_M Int32 :=
  zm_bnd (α := Int32) (fn_X3_allMinutes_4 K a0 zm_N 0 0) fun b28 =>
  zm_ret b28
theorem rf_X3_allMinutes_4 (H : zm_H Ω K) (C : zm_C p l R s m args meth c Ω lw_all cX3_allMinutes yX3_allMinutes.cls yX3_allMinutes.name 3 6 174 (Option.some Jvm.ClassFile.FieldType.int)) (hX : zm_XO p l e R s m args below meth c Ω n0 k0 (zm_QFs below args s Ω n0 k0 zm_tvI)) (p0 : zm_R) : ∀ (n : Nat) (x1 : Int32) (x2 : Int32) (J : (Int32) → zm_M Int32) (ls : Array Slot), lv_has ls 3 [(0, va_rf p0), (1, .int x1), (2, .int x2)] → (∀ (b : Int32) (ls : Array Slot), lv_has ls 3 [(1, .int b)] → zm_RK p l e R s m args below meth c Ω n0 k0 (zm_QFs below args s Ω n0 k0 zm_tvI) (zm_ret b) J (F0 m 28 ls [])) → zm_RK p l e R s m args below meth c Ω n0 k0 (zm_QFs below args s Ω n0 k0 zm_tvI) (fn_X3_allMinutes_4 K p0 n x1 x2) J (F0 m 4 ls []) := by
  have hx := C.1
  have hb := C.2.1
  intro n
  induction n with
  | zero => intro x1 x2 J ls hl hJ; exact rk_fl
  | succ n ih =>
    intro x1 x2 J ls hl hJ
    unfold fn_X3_allMinutes_4
    refine rk_of (fun _ _ _ _ _ k => lv_iload_n hx hb dX3_allMinutes_4 rfl (lv_at hl 2 rfl) (lr_aload_n hx hb dX3_allMinutes_5 rfl (lv_at hl 0 rfl) k)) ?_
    refine rk_get zm_rdR_eq C (hc_X3 H) (k := 0) (Nat.le_of_ble_eq_true rfl) in_X3 q2577 (fun _ h => h) dX3_allMinutes_6 (fun v6 => ?_)
    refine rk_of (fun _ _ _ _ _ k => lv_iconst (v := 0) hx hb dX3_allMinutes_9 rfl k) ?_
    refine rk_iald C dX3_allMinutes_10 (fun v10 => ?_)
    refine rk_ite (fun _ _ _ _ _ k1 k2 => lv_icmp_ge (tgt := 28) hx hb dX3_allMinutes_11 (by decide) k1 k2) (fun c_11 => ?_) (fun c_11 => ?_)
    · exact hJ x1 ls (lv_sub hl [1] rfl)
    · refine rk_of (fun _ _ _ _ _ k => lv_iload_n hx hb dX3_allMinutes_14 rfl (lv_at hl 1 rfl) (lr_aload_n hx hb dX3_allMinutes_15 rfl (lv_at hl 0 rfl) (lv_iload_n hx hb dX3_allMinutes_16 rfl (lv_at hl 2 rfl) k))) ?_
      refine rk_callI hX (cl_V (rest := [.int x1]) (av := [.int x2]) C (hc_X3 H) (ct_X3_minutesLet H p0 x2) (lw_V q2870 q2872 qs75 q112 q2873) ⟨rfl, hd_X3_minutesLet⟩ ⟨(Nat.le_of_ble_eq_true rfl), (Nat.le_of_ble_eq_true rfl)⟩ rfl hl.1 rfl (zw_le (zw_I zw_nil) (Nat.le_of_ble_eq_true rfl)) dX3_allMinutes_17) (fun v17 => ?_)
      refine rk_ofs (fun _ _ _ _ _ k => lv_iadd hx hb dX3_allMinutes_20 (lr_istore_n hx hb dX3_allMinutes_21 rfl hl (Nat.le_of_ble_eq_true rfl) [0, 2] rfl ⟨va_rf_cat _, ⟨trivial, trivial⟩⟩ k)) (fun ls hl => ?_)
      refine rk_ofs (fun _ _ _ _ _ k => lr_iinc (v := x2 + 1) hx hb dX3_allMinutes_22 hl (k := 2) rfl rfl (Nat.le_of_ble_eq_true rfl) [0, 1] rfl ⟨rfl, ⟨trivial, trivial⟩⟩ k) (fun ls hl => ?_)
      refine rk_of (fun _ _ _ _ _ k => lv_goto (tgt := 4) hx hb dX3_allMinutes_25 (by decide) k) ?_
      exact ih (x1 + v17) (x2 + 1) J ls (lv_sub hl [2, 1, 0] rfl) hJ
theorem ct_X3_allMinutes {l : Launch} {Ω : zm_W} {K : zm_K} (H : zm_H Ω K) (a0 : zm_R) : zm_Ct l Ω yX3_allMinutes (ws_ yX3_allMinutes cX3_allMinutes 3 (Option.some Jvm.ClassFile.FieldType.int)) 6 174 [va_rf a0] zm_tvI (fn_X3_allMinutes K a0) := by
  refine zm_ct H.1 (by decide +kernel) (zl_le (zl_R zl_nil) (Nat.le_of_ble_eq_true rfl)) ?_
  intro p e R s m args below meth c n0 k0 C hX ls hl
  have hx := C.1
  have hb := C.2.1
  simp only [zg_R, zg_nil] at hl
  have hl : lv_has ls 3 [(0, va_rf a0)] := hl
  refine rk_rf ?_
  unfold fn_X3_allMinutes
  refine rk_ofs (fun _ _ _ _ _ k => lv_iconst (v := 0) hx hb dX3_allMinutes_0 rfl (lr_istore_n hx hb dX3_allMinutes_1 rfl hl (Nat.le_of_ble_eq_true rfl) [0] rfl ⟨va_rf_cat _, trivial⟩ k)) (fun ls hl => ?_)
  refine rk_ofs (fun _ _ _ _ _ k => lv_iconst (v := 0) hx hb dX3_allMinutes_2 rfl (lr_istore_n hx hb dX3_allMinutes_3 rfl hl (Nat.le_of_ble_eq_true rfl) [0, 1] rfl ⟨rfl, ⟨trivial, trivial⟩⟩ k)) (fun ls hl => ?_)
  refine rk_join (β := Int32) (fun (b28 : Int32) ls => lv_has ls 3 [(1, .int b28)]) (fun (b28 : Int32) ls => F0 m 28 ls []) (fun b28 ls hl => ?_) (fun hJ28 => ?_)
  · refine rk_of (fun _ _ _ _ _ k => lv_iload_n hx hb dX3_allMinutes_28 rfl (lv_at hl 0 rfl) k) ?_
    exact rk_top (rf_iret C rfl dX3_allMinutes_29)
  · exact rf_X3_allMinutes_4 H C hX a0 zm_N 0 0 _ ls (lv_sub hl [2, 1, 0] rfl) hJ28
theorem hd_X3_minutesOf : yX3_minutesOf.cls ≠ "java/lang/invoke/MethodHandle" ∧ yX3_minutesOf.cls ≠ "java/lang/invoke/VarHandle" ∧ (parseMethodDescriptor yX3_minutesOf.desc).map (fun d => d.parameters.length) = some 1 := by decide +kernel
noncomputable def fn_X3_minutesOf (K : zm_K) (a0 : zm_R) (a1 : Int32) : zm_M Int32 :=
  zm_bnd (zm_bnd (zm_is a0 20) fun _ => fn_X3_ofLetting K a0 a1 2) fun v3 =>
  zm_bnd (zm_bnd (zm_is a0 20) fun _ => fn_X3_ofLetting K a0 a1 1) fun v9 =>
  zm_ret (v3 - v9)
theorem ct_X3_minutesOf {l : Launch} {Ω : zm_W} {K : zm_K} (H : zm_H Ω K) (a0 : zm_R) (a1 : Int32) : zm_Ct l Ω yX3_minutesOf (ws_ yX3_minutesOf cX3_minutesOf 2 (Option.some Jvm.ClassFile.FieldType.int)) 3 107 [va_rf a0, .int a1] zm_tvI (fn_X3_minutesOf K a0 a1) := by
  refine zm_ct H.1 (by decide +kernel) (zl_le (zl_R (zl_I zl_nil)) (Nat.le_of_ble_eq_true rfl)) ?_
  intro p e R s m args below meth c n0 k0 C hX ls hl
  have hx := C.1
  have hb := C.2.1
  simp only [zg_I, zg_R, zg_nil] at hl
  have hl : lv_has ls 2 [(0, va_rf a0), (1, .int a1)] := hl
  refine rk_rf ?_
  unfold fn_X3_minutesOf
  refine rk_of (fun _ _ _ _ _ k => lr_aload_n hx hb dX3_minutesOf_0 rfl (lv_at hl 0 rfl) (lv_iload_n hx hb dX3_minutesOf_1 rfl (lv_at hl 1 rfl) (lv_iconst (v := 2) hx hb dX3_minutesOf_2 rfl k))) ?_
  refine rk_callI hX (cl_V (rest := []) (av := [.int a1, .int 2]) C (hc_X3 H) (ct_X3_ofLetting H a0 a1 2) (lw_V q2707 q2709 qs54 q112 q2710) ⟨rfl, hd_X3_ofLetting⟩ ⟨(Nat.le_of_ble_eq_true rfl), (Nat.le_of_ble_eq_true rfl)⟩ rfl hl.1 rfl (zw_le zw_nil (Nat.le_of_ble_eq_true rfl)) dX3_minutesOf_3) (fun v3 => ?_)
  refine rk_of (fun _ _ _ _ _ k => lr_aload_n hx hb dX3_minutesOf_6 rfl (lv_at hl 0 rfl) (lv_iload_n hx hb dX3_minutesOf_7 rfl (lv_at hl 1 rfl) (lv_iconst (v := 1) hx hb dX3_minutesOf_8 rfl k))) ?_
  refine rk_callI hX (cl_V (rest := [.int v3]) (av := [.int a1, .int 1]) C (hc_X3 H) (ct_X3_ofLetting H a0 a1 1) (lw_V q2707 q2709 qs54 q112 q2710) ⟨rfl, hd_X3_ofLetting⟩ ⟨(Nat.le_of_ble_eq_true rfl), (Nat.le_of_ble_eq_true rfl)⟩ rfl hl.1 rfl (zw_le (zw_I zw_nil) (Nat.le_of_ble_eq_true rfl)) dX3_minutesOf_9) (fun v9 => ?_)
  refine rk_of (fun _ _ _ _ _ k => lv_isub hx hb dX3_minutesOf_12 k) ?_
  exact rk_top (rf_iret C rfl dX3_minutesOf_13)
theorem hd_X3_coinsOf : yX3_coinsOf.cls ≠ "java/lang/invoke/MethodHandle" ∧ yX3_coinsOf.cls ≠ "java/lang/invoke/VarHandle" ∧ (parseMethodDescriptor yX3_coinsOf.desc).map (fun d => d.parameters.length) = some 1 := by decide +kernel
noncomputable def fn_X3_coinsOf (K : zm_K) (a0 : zm_R) (a1 : Int32) : zm_M Int32 :=
  zm_bnd (zm_bnd (zm_is a0 20) fun _ => fn_X3_isOver K a0 a1) fun v2 =>
  if v2 = 0 then
    zm_bnd (zm_bnd (zm_is a0 20) fun _ => fn_X3_minutesOf K a0 a1) fun v14 =>
    zm_bnd (zm_bnd (zm_is a0 20) fun _ => fn_X3_ofLetting K a0 a1 3) fun v20 =>
    zm_ret (v14 * v20)
  else
    zm_ret 0
theorem ct_X3_coinsOf {l : Launch} {Ω : zm_W} {K : zm_K} (H : zm_H Ω K) (a0 : zm_R) (a1 : Int32) : zm_Ct l Ω yX3_coinsOf (ws_ yX3_coinsOf cX3_coinsOf 2 (Option.some Jvm.ClassFile.FieldType.int)) 4 128 [va_rf a0, .int a1] zm_tvI (fn_X3_coinsOf K a0 a1) := by
  refine zm_ct H.1 (by decide +kernel) (zl_le (zl_R (zl_I zl_nil)) (Nat.le_of_ble_eq_true rfl)) ?_
  intro p e R s m args below meth c n0 k0 C hX ls hl
  have hx := C.1
  have hb := C.2.1
  simp only [zg_I, zg_R, zg_nil] at hl
  have hl : lv_has ls 2 [(0, va_rf a0), (1, .int a1)] := hl
  refine rk_rf ?_
  unfold fn_X3_coinsOf
  refine rk_of (fun _ _ _ _ _ k => lr_aload_n hx hb dX3_coinsOf_0 rfl (lv_at hl 0 rfl) (lv_iload_n hx hb dX3_coinsOf_1 rfl (lv_at hl 1 rfl) k)) ?_
  refine rk_callI hX (cl_V (rest := []) (av := [.int a1]) C (hc_X3 H) (ct_X3_isOver H a0 a1) (lw_V q2703 q2705 qs53 q112 q2706) ⟨rfl, hd_X3_isOver⟩ ⟨(Nat.le_of_ble_eq_true rfl), (Nat.le_of_ble_eq_true rfl)⟩ rfl hl.1 rfl (zw_le zw_nil (Nat.le_of_ble_eq_true rfl)) dX3_coinsOf_2) (fun v2 => ?_)
  refine rk_ite (fun _ _ _ _ _ k1 k2 => lv_if_eq (tgt := 12) hx hb dX3_coinsOf_5 (by decide) k1 k2) (fun c_5 => ?_) (fun c_5 => ?_)
  · refine rk_of (fun _ _ _ _ _ k => lr_aload_n hx hb dX3_coinsOf_12 rfl (lv_at hl 0 rfl) (lv_iload_n hx hb dX3_coinsOf_13 rfl (lv_at hl 1 rfl) k)) ?_
    refine rk_callI hX (cl_V (rest := []) (av := [.int a1]) C (hc_X3 H) (ct_X3_minutesOf H a0 a1) (lw_V q2738 q2740 qs60 q112 q2741) ⟨rfl, hd_X3_minutesOf⟩ ⟨(Nat.le_of_ble_eq_true rfl), (Nat.le_of_ble_eq_true rfl)⟩ rfl hl.1 rfl (zw_le zw_nil (Nat.le_of_ble_eq_true rfl)) dX3_coinsOf_14) (fun v14 => ?_)
    refine rk_of (fun _ _ _ _ _ k => lr_aload_n hx hb dX3_coinsOf_17 rfl (lv_at hl 0 rfl) (lv_iload_n hx hb dX3_coinsOf_18 rfl (lv_at hl 1 rfl) (lv_iconst (v := 3) hx hb dX3_coinsOf_19 rfl k))) ?_
    refine rk_callI hX (cl_V (rest := [.int v14]) (av := [.int a1, .int 3]) C (hc_X3 H) (ct_X3_ofLetting H a0 a1 3) (lw_V q2707 q2709 qs54 q112 q2710) ⟨rfl, hd_X3_ofLetting⟩ ⟨(Nat.le_of_ble_eq_true rfl), (Nat.le_of_ble_eq_true rfl)⟩ rfl hl.1 rfl (zw_le (zw_I zw_nil) (Nat.le_of_ble_eq_true rfl)) dX3_coinsOf_20) (fun v20 => ?_)
    refine rk_of (fun _ _ _ _ _ k => lv_imul hx hb dX3_coinsOf_23 k) ?_
    exact rk_top (rf_iret C rfl dX3_coinsOf_24)
  · refine rk_of (fun _ _ _ _ _ k => lv_iconst (v := 0) hx hb dX3_coinsOf_8 rfl (lv_goto (tgt := 24) hx hb dX3_coinsOf_9 (by decide) k)) ?_
    exact rk_top (rf_iret C rfl dX3_coinsOf_24)
theorem hd_X3_allCoins : yX3_allCoins.cls ≠ "java/lang/invoke/MethodHandle" ∧ yX3_allCoins.cls ≠ "java/lang/invoke/VarHandle" ∧ (parseMethodDescriptor yX3_allCoins.desc).map (fun d => d.parameters.length) = some 0 := by decide +kernel
noncomputable def fn_X3_allCoins_4 (K : zm_K) (p0 : zm_R) : Nat → Int32 → Int32 → zm_M (Int32)
  | 0, _, _ => zm_fl
  | n + 1, x1, x2 =>
    zm_bnd (zm_getR p0 20 0) fun v6 =>
    zm_bnd (zm_aldI .int v6 1) fun v10 =>
    if v10 ≤ x2 then
      zm_ret x1
    else
      zm_bnd (zm_bnd (zm_is p0 20) fun _ => fn_X3_coinsOf K p0 x2) fun v17 =>
      fn_X3_allCoins_4 K p0 n (x1 + v17) (x2 + 1)
noncomputable def fn_X3_allCoins (K : zm_K) (a0 : zm_R) : zm_M Int32 :=
  zm_bnd (α := Int32) (fn_X3_allCoins_4 K a0 zm_N 0 0) fun b28 =>
  zm_ret b28
theorem rf_X3_allCoins_4 (H : zm_H Ω K) (C : zm_C p l R s m args meth c Ω lw_all cX3_allCoins yX3_allCoins.cls yX3_allCoins.name 3 5 149 (Option.some Jvm.ClassFile.FieldType.int)) (hX : zm_XO p l e R s m args below meth c Ω n0 k0 (zm_QFs below args s Ω n0 k0 zm_tvI)) (p0 : zm_R) : ∀ (n : Nat) (x1 : Int32) (x2 : Int32) (J : (Int32) → zm_M Int32) (ls : Array Slot), lv_has ls 3 [(0, va_rf p0), (1, .int x1), (2, .int x2)] → (∀ (b : Int32) (ls : Array Slot), lv_has ls 3 [(1, .int b)] → zm_RK p l e R s m args below meth c Ω n0 k0 (zm_QFs below args s Ω n0 k0 zm_tvI) (zm_ret b) J (F0 m 28 ls [])) → zm_RK p l e R s m args below meth c Ω n0 k0 (zm_QFs below args s Ω n0 k0 zm_tvI) (fn_X3_allCoins_4 K p0 n x1 x2) J (F0 m 4 ls []) := by
  have hx := C.1
  have hb := C.2.1
  intro n
  induction n with
  | zero => intro x1 x2 J ls hl hJ; exact rk_fl
  | succ n ih =>
    intro x1 x2 J ls hl hJ
    unfold fn_X3_allCoins_4
    refine rk_of (fun _ _ _ _ _ k => lv_iload_n hx hb dX3_allCoins_4 rfl (lv_at hl 2 rfl) (lr_aload_n hx hb dX3_allCoins_5 rfl (lv_at hl 0 rfl) k)) ?_
    refine rk_get zm_rdR_eq C (hc_X3 H) (k := 0) (Nat.le_of_ble_eq_true rfl) in_X3 q2577 (fun _ h => h) dX3_allCoins_6 (fun v6 => ?_)
    refine rk_of (fun _ _ _ _ _ k => lv_iconst (v := 1) hx hb dX3_allCoins_9 rfl k) ?_
    refine rk_iald C dX3_allCoins_10 (fun v10 => ?_)
    refine rk_ite (fun _ _ _ _ _ k1 k2 => lv_icmp_ge (tgt := 28) hx hb dX3_allCoins_11 (by decide) k1 k2) (fun c_11 => ?_) (fun c_11 => ?_)
    · exact hJ x1 ls (lv_sub hl [1] rfl)
    · refine rk_of (fun _ _ _ _ _ k => lv_iload_n hx hb dX3_allCoins_14 rfl (lv_at hl 1 rfl) (lr_aload_n hx hb dX3_allCoins_15 rfl (lv_at hl 0 rfl) (lv_iload_n hx hb dX3_allCoins_16 rfl (lv_at hl 2 rfl) k))) ?_
      refine rk_callI hX (cl_V (rest := [.int x1]) (av := [.int x2]) C (hc_X3 H) (ct_X3_coinsOf H p0 x2) (lw_V q2734 q2736 qs59 q112 q2737) ⟨rfl, hd_X3_coinsOf⟩ ⟨(Nat.le_of_ble_eq_true rfl), (Nat.le_of_ble_eq_true rfl)⟩ rfl hl.1 rfl (zw_le (zw_I zw_nil) (Nat.le_of_ble_eq_true rfl)) dX3_allCoins_17) (fun v17 => ?_)
      refine rk_ofs (fun _ _ _ _ _ k => lv_iadd hx hb dX3_allCoins_20 (lr_istore_n hx hb dX3_allCoins_21 rfl hl (Nat.le_of_ble_eq_true rfl) [0, 2] rfl ⟨va_rf_cat _, ⟨trivial, trivial⟩⟩ k)) (fun ls hl => ?_)
      refine rk_ofs (fun _ _ _ _ _ k => lr_iinc (v := x2 + 1) hx hb dX3_allCoins_22 hl (k := 2) rfl rfl (Nat.le_of_ble_eq_true rfl) [0, 1] rfl ⟨rfl, ⟨trivial, trivial⟩⟩ k) (fun ls hl => ?_)
      refine rk_of (fun _ _ _ _ _ k => lv_goto (tgt := 4) hx hb dX3_allCoins_25 (by decide) k) ?_
      exact ih (x1 + v17) (x2 + 1) J ls (lv_sub hl [2, 1, 0] rfl) hJ
theorem ct_X3_allCoins {l : Launch} {Ω : zm_W} {K : zm_K} (H : zm_H Ω K) (a0 : zm_R) : zm_Ct l Ω yX3_allCoins (ws_ yX3_allCoins cX3_allCoins 3 (Option.some Jvm.ClassFile.FieldType.int)) 5 149 [va_rf a0] zm_tvI (fn_X3_allCoins K a0) := by
  refine zm_ct H.1 (by decide +kernel) (zl_le (zl_R zl_nil) (Nat.le_of_ble_eq_true rfl)) ?_
  intro p e R s m args below meth c n0 k0 C hX ls hl
  have hx := C.1
  have hb := C.2.1
  simp only [zg_R, zg_nil] at hl
  have hl : lv_has ls 3 [(0, va_rf a0)] := hl
  refine rk_rf ?_
  unfold fn_X3_allCoins
  refine rk_ofs (fun _ _ _ _ _ k => lv_iconst (v := 0) hx hb dX3_allCoins_0 rfl (lr_istore_n hx hb dX3_allCoins_1 rfl hl (Nat.le_of_ble_eq_true rfl) [0] rfl ⟨va_rf_cat _, trivial⟩ k)) (fun ls hl => ?_)
  refine rk_ofs (fun _ _ _ _ _ k => lv_iconst (v := 0) hx hb dX3_allCoins_2 rfl (lr_istore_n hx hb dX3_allCoins_3 rfl hl (Nat.le_of_ble_eq_true rfl) [0, 1] rfl ⟨rfl, ⟨trivial, trivial⟩⟩ k)) (fun ls hl => ?_)
  refine rk_join (β := Int32) (fun (b28 : Int32) ls => lv_has ls 3 [(1, .int b28)]) (fun (b28 : Int32) ls => F0 m 28 ls []) (fun b28 ls hl => ?_) (fun hJ28 => ?_)
  · refine rk_of (fun _ _ _ _ _ k => lv_iload_n hx hb dX3_allCoins_28 rfl (lv_at hl 0 rfl) k) ?_
    exact rk_top (rf_iret C rfl dX3_allCoins_29)
  · exact rf_X3_allCoins_4 H C hX a0 zm_N 0 0 _ ls (lv_sub hl [2, 1, 0] rfl) hJ28
theorem hd_X3_account : yX3_account.cls ≠ "java/lang/invoke/MethodHandle" ∧ yX3_account.cls ≠ "java/lang/invoke/VarHandle" ∧ (parseMethodDescriptor yX3_account.desc).map (fun d => d.parameters.length) = some 1 := by decide +kernel
noncomputable def fn_X3_account (K : zm_K) (a0 : zm_R) (a1 : Int32) : zm_M Int32 :=
  zm_bnd (fn_X3_isIn K a1 0 10) fun v5 =>
  zm_bnd (α := Int32) (
      if v5 = 0 then
        zm_ret 1
      else
        zm_ret 0
    ) fun b16 =>
  zm_bnd (zm_bnd (zm_is a0 20) fun _ => fn_X3_isThrown K a0 b16 1) fun v17 =>
  if v17 = 0 then
    if a1 = 0 then
      zm_bnd (zm_getR a0 20 0) fun v81 =>
      zm_bnd (zm_aldI .int v81 0) fun v85 =>
      zm_ret v85
    else
      if a1 = 1 then
        zm_bnd (zm_getR a0 20 0) fun v88 =>
        zm_bnd (zm_aldI .int v88 1) fun v92 =>
        zm_ret v92
      else
        if a1 = 2 then
          zm_bnd (zm_bnd (zm_is a0 20) fun _ => fn_X3_allLettings K a0) fun v95 =>
          zm_ret v95
        else
          if a1 = 3 then
            zm_bnd (zm_getR a0 20 0) fun v100 =>
            zm_bnd (zm_aldI .int v100 2) fun v104 =>
            zm_ret v104
          else
            if a1 = 4 then
              zm_bnd (zm_getR a0 20 0) fun v107 =>
              zm_bnd (zm_aldI .int v107 3) fun v111 =>
              zm_ret v111
            else
              if a1 = 5 then
                zm_bnd (zm_bnd (zm_is a0 20) fun _ => fn_X3_allMinutes K a0) fun v114 =>
                zm_ret v114
              else
                if a1 = 6 then
                  zm_bnd (zm_bnd (zm_is a0 20) fun _ => fn_X3_allCoins K a0) fun v119 =>
                  zm_ret v119
                else
                  if a1 = 7 then
                    zm_bnd (zm_getR a0 20 0) fun v124 =>
                    zm_bnd (zm_aldI .int v124 4) fun v128 =>
                    zm_ret v128
                  else
                    if a1 = 8 then
                      zm_bnd (zm_getR a0 20 0) fun v131 =>
                      zm_bnd (zm_aldI .int v131 5) fun v135 =>
                      zm_ret v135
                    else
                      if a1 = 9 then
                        zm_bnd (zm_getI a0 20 19) fun v138 =>
                        zm_ret v138
                      else
                        zm_bnd (zm_getI a0 20 4) fun v143 =>
                        zm_ret v143
  else
    zm_ret 0
theorem ct_X3_account {l : Launch} {Ω : zm_W} {K : zm_K} (H : zm_H Ω K) (a0 : zm_R) (a1 : Int32) : zm_Ct l Ω yX3_account (ws_ yX3_account cX3_account 2 (Option.some Jvm.ClassFile.FieldType.int)) 7 196 [va_rf a0, .int a1] zm_tvI (fn_X3_account K a0 a1) := by
  refine zm_ct H.1 (by decide +kernel) (zl_le (zl_R (zl_I zl_nil)) (Nat.le_of_ble_eq_true rfl)) ?_
  intro p e R s m args below meth c n0 k0 C hX ls hl
  have hx := C.1
  have hb := C.2.1
  simp only [zg_I, zg_R, zg_nil] at hl
  have hl : lv_has ls 2 [(0, va_rf a0), (1, .int a1)] := hl
  refine rk_rf ?_
  unfold fn_X3_account
  refine rk_of (fun _ _ _ _ _ k => lr_aload_n hx hb dX3_account_0 rfl (lv_at hl 0 rfl) (lv_iload_n hx hb dX3_account_1 rfl (lv_at hl 1 rfl) (lv_iconst (v := 0) hx hb dX3_account_2 rfl (lv_bipush (v := 10) hx hb dX3_account_3 rfl k)))) ?_
  refine rk_callI hX (cl_S (rest := [va_rf a0]) C (ct_X3_isIn H a1 0 10) (lw_S q2662 q2663 q112 q2664) hd_X3_isIn ⟨(Nat.le_of_ble_eq_true rfl), (Nat.le_of_ble_eq_true rfl)⟩ rfl hl.1 rfl (zw_le (zw_R zw_nil) (Nat.le_of_ble_eq_true rfl)) dX3_account_5) (fun v5 => ?_)
  refine rk_join (β := Int32) (fun (b16 : Int32) ls => lv_has ls 2 [(0, va_rf a0), (1, .int a1)]) (fun (b16 : Int32) ls => F0 m 16 ls [.int b16, va_rf a0]) (fun b16 ls hl => ?_) (fun hJ16 => ?_)
  · refine rk_of (fun _ _ _ _ _ k => lv_iconst (v := 1) hx hb dX3_account_16 rfl k) ?_
    refine rk_callI hX (cl_V (rest := []) (av := [.int b16, .int 1]) C (hc_X3 H) (ct_X3_isThrown H a0 b16 1) (lw_V q2665 q2667 qs46 q112 q2668) ⟨rfl, hd_X3_isThrown⟩ ⟨(Nat.le_of_ble_eq_true rfl), (Nat.le_of_ble_eq_true rfl)⟩ rfl hl.1 rfl (zw_le zw_nil (Nat.le_of_ble_eq_true rfl)) dX3_account_17) (fun v17 => ?_)
    refine rk_ite (fun _ _ _ _ _ k1 k2 => lv_if_eq (tgt := 25) hx hb dX3_account_20 (by decide) k1 k2) (fun c_20 => ?_) (fun c_20 => ?_)
    · refine rk_of (fun _ _ _ _ _ k => lv_iload_n hx hb dX3_account_25 rfl (lv_at hl 1 rfl) k) ?_
      refine rk_case (fun c_26_0 => ?_) (fun c_26_0 => ?_)
      · refine rk_of (fun _ _ _ _ _ k => by rw [c_26_0]; exact lv_tableIn (off := 54) (tgt := 80) hx hb dX3_account_26 (by decide) (by decide) rfl (by decide) k) ?_
        refine rk_of (fun _ _ _ _ _ k => lr_aload_n hx hb dX3_account_80 rfl (lv_at hl 0 rfl) k) ?_
        refine rk_get zm_rdR_eq C (hc_X3 H) (k := 0) (Nat.le_of_ble_eq_true rfl) in_X3 q2577 (fun _ h => h) dX3_account_81 (fun v81 => ?_)
        refine rk_of (fun _ _ _ _ _ k => lv_iconst (v := 0) hx hb dX3_account_84 rfl k) ?_
        refine rk_iald C dX3_account_85 (fun v85 => ?_)
        exact rk_top (rf_iret C rfl dX3_account_86)
      · refine rk_case (fun c_26_1 => ?_) (fun c_26_1 => ?_)
        · refine rk_of (fun _ _ _ _ _ k => by rw [c_26_1]; exact lv_tableIn (off := 61) (tgt := 87) hx hb dX3_account_26 (by decide) (by decide) rfl (by decide) k) ?_
          refine rk_of (fun _ _ _ _ _ k => lr_aload_n hx hb dX3_account_87 rfl (lv_at hl 0 rfl) k) ?_
          refine rk_get zm_rdR_eq C (hc_X3 H) (k := 0) (Nat.le_of_ble_eq_true rfl) in_X3 q2577 (fun _ h => h) dX3_account_88 (fun v88 => ?_)
          refine rk_of (fun _ _ _ _ _ k => lv_iconst (v := 1) hx hb dX3_account_91 rfl k) ?_
          refine rk_iald C dX3_account_92 (fun v92 => ?_)
          exact rk_top (rf_iret C rfl dX3_account_93)
        · refine rk_case (fun c_26_2 => ?_) (fun c_26_2 => ?_)
          · refine rk_of (fun _ _ _ _ _ k => by rw [c_26_2]; exact lv_tableIn (off := 68) (tgt := 94) hx hb dX3_account_26 (by decide) (by decide) rfl (by decide) k) ?_
            refine rk_of (fun _ _ _ _ _ k => lr_aload_n hx hb dX3_account_94 rfl (lv_at hl 0 rfl) k) ?_
            refine rk_callI hX (cl_V (rest := []) (av := []) C (hc_X3 H) (ct_X3_allLettings H a0) (lw_V q2957 q2959 qs86 q112 q2960) ⟨rfl, hd_X3_allLettings⟩ ⟨(Nat.le_of_ble_eq_true rfl), (Nat.le_of_ble_eq_true rfl)⟩ rfl hl.1 rfl (zw_le zw_nil (Nat.le_of_ble_eq_true rfl)) dX3_account_95) (fun v95 => ?_)
            exact rk_top (rf_iret C rfl dX3_account_98)
          · refine rk_case (fun c_26_3 => ?_) (fun c_26_3 => ?_)
            · refine rk_of (fun _ _ _ _ _ k => by rw [c_26_3]; exact lv_tableIn (off := 73) (tgt := 99) hx hb dX3_account_26 (by decide) (by decide) rfl (by decide) k) ?_
              refine rk_of (fun _ _ _ _ _ k => lr_aload_n hx hb dX3_account_99 rfl (lv_at hl 0 rfl) k) ?_
              refine rk_get zm_rdR_eq C (hc_X3 H) (k := 0) (Nat.le_of_ble_eq_true rfl) in_X3 q2577 (fun _ h => h) dX3_account_100 (fun v100 => ?_)
              refine rk_of (fun _ _ _ _ _ k => lv_iconst (v := 2) hx hb dX3_account_103 rfl k) ?_
              refine rk_iald C dX3_account_104 (fun v104 => ?_)
              exact rk_top (rf_iret C rfl dX3_account_105)
            · refine rk_case (fun c_26_4 => ?_) (fun c_26_4 => ?_)
              · refine rk_of (fun _ _ _ _ _ k => by rw [c_26_4]; exact lv_tableIn (off := 80) (tgt := 106) hx hb dX3_account_26 (by decide) (by decide) rfl (by decide) k) ?_
                refine rk_of (fun _ _ _ _ _ k => lr_aload_n hx hb dX3_account_106 rfl (lv_at hl 0 rfl) k) ?_
                refine rk_get zm_rdR_eq C (hc_X3 H) (k := 0) (Nat.le_of_ble_eq_true rfl) in_X3 q2577 (fun _ h => h) dX3_account_107 (fun v107 => ?_)
                refine rk_of (fun _ _ _ _ _ k => lv_iconst (v := 3) hx hb dX3_account_110 rfl k) ?_
                refine rk_iald C dX3_account_111 (fun v111 => ?_)
                exact rk_top (rf_iret C rfl dX3_account_112)
              · refine rk_case (fun c_26_5 => ?_) (fun c_26_5 => ?_)
                · refine rk_of (fun _ _ _ _ _ k => by rw [c_26_5]; exact lv_tableIn (off := 87) (tgt := 113) hx hb dX3_account_26 (by decide) (by decide) rfl (by decide) k) ?_
                  refine rk_of (fun _ _ _ _ _ k => lr_aload_n hx hb dX3_account_113 rfl (lv_at hl 0 rfl) k) ?_
                  refine rk_callI hX (cl_V (rest := []) (av := []) C (hc_X3 H) (ct_X3_allMinutes H a0) (lw_V q2961 q2963 qs87 q112 q2964) ⟨rfl, hd_X3_allMinutes⟩ ⟨(Nat.le_of_ble_eq_true rfl), (Nat.le_of_ble_eq_true rfl)⟩ rfl hl.1 rfl (zw_le zw_nil (Nat.le_of_ble_eq_true rfl)) dX3_account_114) (fun v114 => ?_)
                  exact rk_top (rf_iret C rfl dX3_account_117)
                · refine rk_case (fun c_26_6 => ?_) (fun c_26_6 => ?_)
                  · refine rk_of (fun _ _ _ _ _ k => by rw [c_26_6]; exact lv_tableIn (off := 92) (tgt := 118) hx hb dX3_account_26 (by decide) (by decide) rfl (by decide) k) ?_
                    refine rk_of (fun _ _ _ _ _ k => lr_aload_n hx hb dX3_account_118 rfl (lv_at hl 0 rfl) k) ?_
                    refine rk_callI hX (cl_V (rest := []) (av := []) C (hc_X3 H) (ct_X3_allCoins H a0) (lw_V q2965 q2967 qs88 q112 q2968) ⟨rfl, hd_X3_allCoins⟩ ⟨(Nat.le_of_ble_eq_true rfl), (Nat.le_of_ble_eq_true rfl)⟩ rfl hl.1 rfl (zw_le zw_nil (Nat.le_of_ble_eq_true rfl)) dX3_account_119) (fun v119 => ?_)
                    exact rk_top (rf_iret C rfl dX3_account_122)
                  · refine rk_case (fun c_26_7 => ?_) (fun c_26_7 => ?_)
                    · refine rk_of (fun _ _ _ _ _ k => by rw [c_26_7]; exact lv_tableIn (off := 97) (tgt := 123) hx hb dX3_account_26 (by decide) (by decide) rfl (by decide) k) ?_
                      refine rk_of (fun _ _ _ _ _ k => lr_aload_n hx hb dX3_account_123 rfl (lv_at hl 0 rfl) k) ?_
                      refine rk_get zm_rdR_eq C (hc_X3 H) (k := 0) (Nat.le_of_ble_eq_true rfl) in_X3 q2577 (fun _ h => h) dX3_account_124 (fun v124 => ?_)
                      refine rk_of (fun _ _ _ _ _ k => lv_iconst (v := 4) hx hb dX3_account_127 rfl k) ?_
                      refine rk_iald C dX3_account_128 (fun v128 => ?_)
                      exact rk_top (rf_iret C rfl dX3_account_129)
                    · refine rk_case (fun c_26_8 => ?_) (fun c_26_8 => ?_)
                      · refine rk_of (fun _ _ _ _ _ k => by rw [c_26_8]; exact lv_tableIn (off := 104) (tgt := 130) hx hb dX3_account_26 (by decide) (by decide) rfl (by decide) k) ?_
                        refine rk_of (fun _ _ _ _ _ k => lr_aload_n hx hb dX3_account_130 rfl (lv_at hl 0 rfl) k) ?_
                        refine rk_get zm_rdR_eq C (hc_X3 H) (k := 0) (Nat.le_of_ble_eq_true rfl) in_X3 q2577 (fun _ h => h) dX3_account_131 (fun v131 => ?_)
                        refine rk_of (fun _ _ _ _ _ k => lv_iconst (v := 5) hx hb dX3_account_134 rfl k) ?_
                        refine rk_iald C dX3_account_135 (fun v135 => ?_)
                        exact rk_top (rf_iret C rfl dX3_account_136)
                      · refine rk_case (fun c_26_9 => ?_) (fun c_26_9 => ?_)
                        · refine rk_of (fun _ _ _ _ _ k => by rw [c_26_9]; exact lv_tableIn (off := 111) (tgt := 137) hx hb dX3_account_26 (by decide) (by decide) rfl (by decide) k) ?_
                          refine rk_of (fun _ _ _ _ _ k => lr_aload_n hx hb dX3_account_137 rfl (lv_at hl 0 rfl) k) ?_
                          refine rk_get zm_rdI_eq C (hc_X3 H) (k := 19) (Nat.le_of_ble_eq_true rfl) in_X3 q2596 (fun _ h => h) dX3_account_138 (fun v138 => ?_)
                          exact rk_top (rf_iret C rfl dX3_account_141)
                        · have q_0 : (a1).toInt ≠ 0 := fun q => c_26_0 (zs_eq q rfl)
                          have q_1 : (a1).toInt ≠ 1 := fun q => c_26_1 (zs_eq q rfl)
                          have q_2 : (a1).toInt ≠ 2 := fun q => c_26_2 (zs_eq q rfl)
                          have q_3 : (a1).toInt ≠ 3 := fun q => c_26_3 (zs_eq q rfl)
                          have q_4 : (a1).toInt ≠ 4 := fun q => c_26_4 (zs_eq q rfl)
                          have q_5 : (a1).toInt ≠ 5 := fun q => c_26_5 (zs_eq q rfl)
                          have q_6 : (a1).toInt ≠ 6 := fun q => c_26_6 (zs_eq q rfl)
                          have q_7 : (a1).toInt ≠ 7 := fun q => c_26_7 (zs_eq q rfl)
                          have q_8 : (a1).toInt ≠ 8 := fun q => c_26_8 (zs_eq q rfl)
                          have q_9 : (a1).toInt ≠ 9 := fun q => c_26_9 (zs_eq q rfl)
                          refine rk_of (fun _ _ _ _ _ k => lv_tableOut (tgt := 142) hx hb dX3_account_26 (by omega) (by decide) k) ?_
                          refine rk_of (fun _ _ _ _ _ k => lr_aload_n hx hb dX3_account_142 rfl (lv_at hl 0 rfl) k) ?_
                          refine rk_get zm_rdI_eq C (hc_X3 H) (k := 4) (Nat.le_of_ble_eq_true rfl) in_X3 q2581 (fun _ h => h) dX3_account_143 (fun v143 => ?_)
                          exact rk_top (rf_iret C rfl dX3_account_146)
    · refine rk_of (fun _ _ _ _ _ k => lv_iconst (v := 0) hx hb dX3_account_23 rfl k) ?_
      exact rk_top (rf_iret C rfl dX3_account_24)
  · refine rk_ite (fun _ _ _ _ _ k1 k2 => lv_if_ne (tgt := 15) hx hb dX3_account_8 (by decide) k2 k1) (fun c_8 => ?_) (fun c_8 => ?_)
    · refine rk_of (fun _ _ _ _ _ k => lv_iconst (v := 1) hx hb dX3_account_11 rfl (lv_goto (tgt := 16) hx hb dX3_account_12 (by decide) k)) ?_
      exact hJ16 1 ls (lv_sub hl [0, 1] rfl)
    · refine rk_of (fun _ _ _ _ _ k => lv_iconst (v := 0) hx hb dX3_account_15 rfl k) ?_
      exact hJ16 0 ls (lv_sub hl [0, 1] rfl)
theorem hd_X3_copies : yX3_copies.cls ≠ "java/lang/invoke/MethodHandle" ∧ yX3_copies.cls ≠ "java/lang/invoke/VarHandle" ∧ (parseMethodDescriptor yX3_copies.desc).map (fun d => d.parameters.length) = some 4 := by decide +kernel
noncomputable def fn_X3_copies_3 (K : zm_K) (p0 : zm_R) (p1 : Int32) (p2 : zm_R) (p3 : Int32) : Nat → Int32 → zm_M (Unit)
  | 0, _ => zm_fl
  | n + 1, x4 =>
    if 197 ≤ x4 then
      zm_ret ()
    else
      zm_bnd (zm_aldI .int p0 (p1 + x4)) fun v21 =>
      zm_bnd (zm_astI K .int p2 (p3 + x4) v21) fun _ =>
      fn_X3_copies_3 K p0 p1 p2 p3 n (x4 + 1)
noncomputable def fn_X3_copies (K : zm_K) (a0 : zm_R) (a1 : Int32) (a2 : zm_R) (a3 : Int32) : zm_M Unit :=
  zm_bnd (α := Unit) (fn_X3_copies_3 K a0 a1 a2 a3 zm_N 0) fun (_ : Unit) =>
  zm_ret ()
theorem rf_X3_copies_3 (H : zm_H Ω K) (C : zm_C p l R s m args meth c Ω lw_all cX3_copies yX3_copies.cls yX3_copies.name 5 1 64 (Option.none : Option Jvm.ClassFile.FieldType)) (hX : zm_XO p l e R s m args below meth c Ω n0 k0 (zm_QFs below args s Ω n0 k0 zm_tvV)) (p0 : zm_R) (p1 : Int32) (p2 : zm_R) (p3 : Int32) : ∀ (n : Nat) (x4 : Int32) (J : (Unit) → zm_M Unit) (ls : Array Slot), lv_has ls 5 [(0, va_rf p0), (1, .int p1), (2, va_rf p2), (3, .int p3), (4, .int x4)] → (∀ (b : Unit) (ls : Array Slot), lv_has ls 5 [] → zm_RK p l e R s m args below meth c Ω n0 k0 (zm_QFs below args s Ω n0 k0 zm_tvV) (zm_ret b) J (F0 m 29 ls [])) → zm_RK p l e R s m args below meth c Ω n0 k0 (zm_QFs below args s Ω n0 k0 zm_tvV) (fn_X3_copies_3 K p0 p1 p2 p3 n x4) J (F0 m 3 ls []) := by
  have hx := C.1
  have hb := C.2.1
  intro n
  induction n with
  | zero => intro x4 J ls hl hJ; exact rk_fl
  | succ n ih =>
    intro x4 J ls hl hJ
    unfold fn_X3_copies_3
    refine rk_ite (fun _ _ _ _ _ k1 k2 => lv_iload hx hb dX3_copies_3 (lv_at hl 4 rfl) (lv_sipush (v := 197) hx hb dX3_copies_5 rfl (lv_icmp_ge (tgt := 29) hx hb dX3_copies_8 (by decide) k1 k2))) (fun c_8 => ?_) (fun c_8 => ?_)
    · exact hJ () ls (lv_sub hl [] rfl)
    · refine rk_of (fun _ _ _ _ _ k => lr_aload_n hx hb dX3_copies_11 rfl (lv_at hl 2 rfl) (lv_iload_n hx hb dX3_copies_12 rfl (lv_at hl 3 rfl) (lv_iload hx hb dX3_copies_13 (lv_at hl 4 rfl) (lv_iadd hx hb dX3_copies_15 (lr_aload_n hx hb dX3_copies_16 rfl (lv_at hl 0 rfl) (lv_iload_n hx hb dX3_copies_17 rfl (lv_at hl 1 rfl) (lv_iload hx hb dX3_copies_18 (lv_at hl 4 rfl) (lv_iadd hx hb dX3_copies_20 k)))))))) ?_
      refine rk_iald C dX3_copies_21 (fun v21 => ?_)
      refine rk_iast C H.2.2.1 dX3_copies_22 ?_
      refine rk_ofs (fun _ _ _ _ _ k => lr_iinc (v := x4 + 1) hx hb dX3_copies_23 hl (k := 4) rfl rfl (Nat.le_of_ble_eq_true rfl) [0, 1, 2, 3] rfl ⟨trivial, ⟨trivial, ⟨trivial, ⟨rfl, trivial⟩⟩⟩⟩ k) (fun ls hl => ?_)
      refine rk_of (fun _ _ _ _ _ k => lv_goto (tgt := 3) hx hb dX3_copies_26 (by decide) k) ?_
      exact ih (x4 + 1) J ls (lv_sub hl [1, 2, 3, 4, 0] rfl) hJ
theorem ct_X3_copies {l : Launch} {Ω : zm_W} {K : zm_K} (H : zm_H Ω K) (a0 : zm_R) (a1 : Int32) (a2 : zm_R) (a3 : Int32) : zm_Ct l Ω yX3_copies (ws_ yX3_copies cX3_copies 5 (Option.none : Option Jvm.ClassFile.FieldType)) 1 64 [va_rf a0, .int a1, va_rf a2, .int a3] zm_tvV (fn_X3_copies K a0 a1 a2 a3) := by
  refine zm_ct H.1 (by decide +kernel) (zl_le (zl_R (zl_I (zl_R (zl_I zl_nil)))) (Nat.le_of_ble_eq_true rfl)) ?_
  intro p e R s m args below meth c n0 k0 C hX ls hl
  have hx := C.1
  have hb := C.2.1
  simp only [zg_I, zg_R, zg_nil] at hl
  have hl : lv_has ls 5 [(0, va_rf a0), (1, .int a1), (2, va_rf a2), (3, .int a3)] := hl
  refine rk_rf ?_
  unfold fn_X3_copies
  refine rk_ofs (fun _ _ _ _ _ k => lv_iconst (v := 0) hx hb dX3_copies_0 rfl (lr_istore hx hb dX3_copies_1 hl (Nat.le_of_ble_eq_true rfl) [0, 1, 2, 3] rfl ⟨trivial, ⟨trivial, ⟨trivial, ⟨rfl, trivial⟩⟩⟩⟩ k)) (fun ls hl => ?_)
  refine rk_join (β := Unit) (fun (b29 : Unit) ls => lv_has ls 5 []) (fun (b29 : Unit) ls => F0 m 29 ls []) (fun b29 ls hl => ?_) (fun hJ29 => ?_)
  · exact rk_top (rf_vret C dX3_copies_29)
  · exact rf_X3_copies_3 H C hX a0 a1 a2 a3 zm_N 0 _ ls (lv_sub hl [1, 2, 3, 4, 0] rfl) hJ29
theorem hd_X3_keeps : yX3_keeps.cls ≠ "java/lang/invoke/MethodHandle" ∧ yX3_keeps.cls ≠ "java/lang/invoke/VarHandle" ∧ (parseMethodDescriptor yX3_keeps.desc).map (fun d => d.parameters.length) = some 0 := by decide +kernel
noncomputable def fn_X3_keeps (K : zm_K) (a0 : zm_R) : zm_M Unit :=
  zm_bnd (zm_getR a0 20 0) fun v1 =>
  zm_bnd (zm_getR a0 20 1) fun v6 =>
  zm_bnd (fn_X3_copies K v1 0 v6 0) fun _ =>
  zm_bnd (zm_putF K a0 20 5 (.int 0)) fun _ =>
  zm_ret ()
theorem ct_X3_keeps {l : Launch} {Ω : zm_W} {K : zm_K} (H : zm_H Ω K) (a0 : zm_R) : zm_Ct l Ω yX3_keeps (ws_ yX3_keeps cX3_keeps 1 (Option.none : Option Jvm.ClassFile.FieldType)) 2 88 [va_rf a0] zm_tvV (fn_X3_keeps K a0) := by
  refine zm_ct H.1 (by decide +kernel) (zl_le (zl_R zl_nil) (Nat.le_of_ble_eq_true rfl)) ?_
  intro p e R s m args below meth c n0 k0 C hX ls hl
  have hx := C.1
  have hb := C.2.1
  simp only [zg_R, zg_nil] at hl
  have hl : lv_has ls 1 [(0, va_rf a0)] := hl
  refine rk_rf ?_
  unfold fn_X3_keeps
  refine rk_of (fun _ _ _ _ _ k => lr_aload_n hx hb dX3_keeps_0 rfl (lv_at hl 0 rfl) k) ?_
  refine rk_get zm_rdR_eq C (hc_X3 H) (k := 0) (Nat.le_of_ble_eq_true rfl) in_X3 q2577 (fun _ h => h) dX3_keeps_1 (fun v1 => ?_)
  refine rk_of (fun _ _ _ _ _ k => lv_iconst (v := 0) hx hb dX3_keeps_4 rfl (lr_aload_n hx hb dX3_keeps_5 rfl (lv_at hl 0 rfl) k)) ?_
  refine rk_get zm_rdR_eq C (hc_X3 H) (k := 1) (Nat.le_of_ble_eq_true rfl) in_X3 q2578 (fun _ h => h) dX3_keeps_6 (fun v6 => ?_)
  refine rk_of (fun _ _ _ _ _ k => lv_iconst (v := 0) hx hb dX3_keeps_9 rfl k) ?_
  refine rk_callV hX (cl_S (rest := []) C (ct_X3_copies H v1 0 v6 0) (lw_S q2659 q2660 q112 q2661) hd_X3_copies ⟨(Nat.le_of_ble_eq_true rfl), (Nat.le_of_ble_eq_true rfl)⟩ rfl hl.1 rfl (zw_le zw_nil (Nat.le_of_ble_eq_true rfl)) dX3_keeps_10) (fun _ => ?_)
  refine rk_of (fun _ _ _ _ _ k => lr_aload_n hx hb dX3_keeps_13 rfl (lv_at hl 0 rfl) (lv_iconst (v := 0) hx hb dX3_keeps_14 rfl k)) ?_
  refine rk_put C H.2.2.1 (hc_X3 H) (k := 5) (Nat.le_of_ble_eq_true rfl) in_X3 (ty0 := tyX3) tyX3_ok nmX3 q2582 (fun _ h => h) (Or.inl rfl) rfl rfl dX3_keeps_15 ?_
  exact rk_top (rf_vret C dX3_keeps_18)
theorem hd_X3_isRefused : yX3_isRefused.cls ≠ "java/lang/invoke/MethodHandle" ∧ yX3_isRefused.cls ≠ "java/lang/invoke/VarHandle" ∧ (parseMethodDescriptor yX3_isRefused.desc).map (fun d => d.parameters.length) = some 3 := by decide +kernel
noncomputable def fn_X3_isRefused (K : zm_K) (a0 : zm_R) (a1 : Int32) (a2 : Int32) (a3 : Int32) : zm_M Int32 :=
  if a1 = 0 then
    zm_bnd (zm_grd (a1 = 0 ∨ a1 = 1)) fun _ =>
    zm_ret a1
  else
    zm_bnd (zm_putF K a0 20 6 (.int a2)) fun _ =>
    zm_bnd (zm_putF K a0 20 7 (.int a3)) fun _ =>
    zm_bnd (zm_putF K a0 20 8 (.int 0)) fun _ =>
    zm_bnd (zm_putF K a0 20 5 (.int 9)) fun _ =>
    zm_bnd (zm_grd (a1 = 0 ∨ a1 = 1)) fun _ =>
    zm_ret a1
theorem ct_X3_isRefused {l : Launch} {Ω : zm_W} {K : zm_K} (H : zm_H Ω K) (a0 : zm_R) (a1 : Int32) (a2 : Int32) (a3 : Int32) : zm_Ct l Ω yX3_isRefused (ws_ yX3_isRefused cX3_isRefused 4 (Option.some Jvm.ClassFile.FieldType.boolean)) 1 64 [va_rf a0, .int a1, .int a2, .int a3] zm_tvI (fn_X3_isRefused K a0 a1 a2 a3) := by
  refine zm_ct H.1 (by decide +kernel) (zl_le (zl_R (zl_I (zl_I (zl_I zl_nil)))) (Nat.le_of_ble_eq_true rfl)) ?_
  intro p e R s m args below meth c n0 k0 C hX ls hl
  have hx := C.1
  have hb := C.2.1
  simp only [zg_I, zg_R, zg_nil] at hl
  have hl : lv_has ls 4 [(0, va_rf a0), (1, .int a1), (2, .int a2), (3, .int a3)] := hl
  refine rk_rf ?_
  unfold fn_X3_isRefused
  refine rk_ite (fun _ _ _ _ _ k1 k2 => lv_iload_n hx hb dX3_isRefused_0 rfl (lv_at hl 1 rfl) (lv_if_eq (tgt := 25) hx hb dX3_isRefused_1 (by decide) k1 k2)) (fun c_1 => ?_) (fun c_1 => ?_)
  · refine rk_of (fun _ _ _ _ _ k => lv_iload_n hx hb dX3_isRefused_25 rfl (lv_at hl 1 rfl) k) ?_
    refine rk_grd (fun hg_26 => ?_)
    exact rk_top (rf_iret C (zn_Z hg_26) dX3_isRefused_26)
  · refine rk_of (fun _ _ _ _ _ k => lr_aload_n hx hb dX3_isRefused_4 rfl (lv_at hl 0 rfl) (lv_iload_n hx hb dX3_isRefused_5 rfl (lv_at hl 2 rfl) k)) ?_
    refine rk_put C H.2.2.1 (hc_X3 H) (k := 6) (Nat.le_of_ble_eq_true rfl) in_X3 (ty0 := tyX3) tyX3_ok nmX3 q2583 (fun _ h => h) (Or.inl rfl) rfl rfl dX3_isRefused_6 ?_
    refine rk_of (fun _ _ _ _ _ k => lr_aload_n hx hb dX3_isRefused_9 rfl (lv_at hl 0 rfl) (lv_iload_n hx hb dX3_isRefused_10 rfl (lv_at hl 3 rfl) k)) ?_
    refine rk_put C H.2.2.1 (hc_X3 H) (k := 7) (Nat.le_of_ble_eq_true rfl) in_X3 (ty0 := tyX3) tyX3_ok nmX3 q2584 (fun _ h => h) (Or.inl rfl) rfl rfl dX3_isRefused_11 ?_
    refine rk_of (fun _ _ _ _ _ k => lr_aload_n hx hb dX3_isRefused_14 rfl (lv_at hl 0 rfl) (lv_iconst (v := 0) hx hb dX3_isRefused_15 rfl k)) ?_
    refine rk_put C H.2.2.1 (hc_X3 H) (k := 8) (Nat.le_of_ble_eq_true rfl) in_X3 (ty0 := tyX3) tyX3_ok nmX3 q2585 (fun _ h => h) (Or.inl rfl) rfl rfl dX3_isRefused_16 ?_
    refine rk_of (fun _ _ _ _ _ k => lr_aload_n hx hb dX3_isRefused_19 rfl (lv_at hl 0 rfl) (lv_bipush (v := 9) hx hb dX3_isRefused_20 rfl k)) ?_
    refine rk_put C H.2.2.1 (hc_X3 H) (k := 5) (Nat.le_of_ble_eq_true rfl) in_X3 (ty0 := tyX3) tyX3_ok nmX3 q2582 (fun _ h => h) (Or.inl rfl) rfl rfl dX3_isRefused_22 ?_
    refine rk_of (fun _ _ _ _ _ k => lv_iload_n hx hb dX3_isRefused_25 rfl (lv_at hl 1 rfl) k) ?_
    refine rk_grd (fun hg_26 => ?_)
    exact rk_top (rf_iret C (zn_Z hg_26) dX3_isRefused_26)
theorem hd_X3_wishAt : yX3_wishAt.cls ≠ "java/lang/invoke/MethodHandle" ∧ yX3_wishAt.cls ≠ "java/lang/invoke/VarHandle" ∧ (parseMethodDescriptor yX3_wishAt.desc).map (fun d => d.parameters.length) = some 2 := by decide +kernel
noncomputable def fn_X3_wishAt (K : zm_K) (a0 : Int32) (a1 : Int32) : zm_M Int32 :=
  zm_ret ((161 + (3 * a0)) + a1)
theorem ct_X3_wishAt {l : Launch} {Ω : zm_W} {K : zm_K} (H : zm_H Ω K) (a0 : Int32) (a1 : Int32) : zm_Ct l Ω yX3_wishAt (ws_ yX3_wishAt cX3_wishAt 2 (Option.some Jvm.ClassFile.FieldType.int)) 1 64 [.int a0, .int a1] zm_tvI (fn_X3_wishAt K a0 a1) := by
  refine zm_ct H.1 (by decide +kernel) (zl_le (zl_I (zl_I zl_nil)) (Nat.le_of_ble_eq_true rfl)) ?_
  intro p e R s m args below meth c n0 k0 C hX ls hl
  have hx := C.1
  have hb := C.2.1
  simp only [zg_I, zg_nil] at hl
  have hl : lv_has ls 2 [(0, .int a0), (1, .int a1)] := hl
  refine rk_rf ?_
  unfold fn_X3_wishAt
  refine rk_of (fun _ _ _ _ _ k => lv_sipush (v := 161) hx hb dX3_wishAt_0 rfl (lv_iconst (v := 3) hx hb dX3_wishAt_3 rfl (lv_iload_n hx hb dX3_wishAt_4 rfl (lv_at hl 0 rfl) (lv_imul hx hb dX3_wishAt_5 (lv_iadd hx hb dX3_wishAt_6 (lv_iload_n hx hb dX3_wishAt_7 rfl (lv_at hl 1 rfl) (lv_iadd hx hb dX3_wishAt_8 k))))))) ?_
  exact rk_top (rf_iret C rfl dX3_wishAt_9)
theorem hd_X3_ofWish : yX3_ofWish.cls ≠ "java/lang/invoke/MethodHandle" ∧ yX3_ofWish.cls ≠ "java/lang/invoke/VarHandle" ∧ (parseMethodDescriptor yX3_ofWish.desc).map (fun d => d.parameters.length) = some 2 := by decide +kernel
noncomputable def fn_X3_ofWish (K : zm_K) (a0 : zm_R) (a1 : Int32) (a2 : Int32) : zm_M Int32 :=
  zm_bnd (zm_getR a0 20 0) fun v1 =>
  zm_bnd (fn_X3_wishAt K a1 a2) fun v6 =>
  zm_bnd (zm_aldI .int v1 v6) fun v9 =>
  zm_ret v9
theorem ct_X3_ofWish {l : Launch} {Ω : zm_W} {K : zm_K} (H : zm_H Ω K) (a0 : zm_R) (a1 : Int32) (a2 : Int32) : zm_Ct l Ω yX3_ofWish (ws_ yX3_ofWish cX3_ofWish 3 (Option.some Jvm.ClassFile.FieldType.int)) 2 85 [va_rf a0, .int a1, .int a2] zm_tvI (fn_X3_ofWish K a0 a1 a2) := by
  refine zm_ct H.1 (by decide +kernel) (zl_le (zl_R (zl_I (zl_I zl_nil))) (Nat.le_of_ble_eq_true rfl)) ?_
  intro p e R s m args below meth c n0 k0 C hX ls hl
  have hx := C.1
  have hb := C.2.1
  simp only [zg_I, zg_R, zg_nil] at hl
  have hl : lv_has ls 3 [(0, va_rf a0), (1, .int a1), (2, .int a2)] := hl
  refine rk_rf ?_
  unfold fn_X3_ofWish
  refine rk_of (fun _ _ _ _ _ k => lr_aload_n hx hb dX3_ofWish_0 rfl (lv_at hl 0 rfl) k) ?_
  refine rk_get zm_rdR_eq C (hc_X3 H) (k := 0) (Nat.le_of_ble_eq_true rfl) in_X3 q2577 (fun _ h => h) dX3_ofWish_1 (fun v1 => ?_)
  refine rk_of (fun _ _ _ _ _ k => lv_iload_n hx hb dX3_ofWish_4 rfl (lv_at hl 1 rfl) (lv_iload_n hx hb dX3_ofWish_5 rfl (lv_at hl 2 rfl) k)) ?_
  refine rk_callI hX (cl_S (rest := [va_rf v1]) C (ct_X3_wishAt H a1 a2) (lw_S q2795 q2796 q112 q2797) hd_X3_wishAt ⟨(Nat.le_of_ble_eq_true rfl), (Nat.le_of_ble_eq_true rfl)⟩ rfl hl.1 rfl (zw_le (zw_R zw_nil) (Nat.le_of_ble_eq_true rfl)) dX3_ofWish_6) (fun v6 => ?_)
  refine rk_iald C dX3_ofWish_9 (fun v9 => ?_)
  exact rk_top (rf_iret C rfl dX3_ofWish_10)
theorem hd_X3_isWishAhead : yX3_isWishAhead.cls ≠ "java/lang/invoke/MethodHandle" ∧ yX3_isWishAhead.cls ≠ "java/lang/invoke/VarHandle" ∧ (parseMethodDescriptor yX3_isWishAhead.desc).map (fun d => d.parameters.length) = some 2 := by decide +kernel
noncomputable def fn_X3_isWishAhead (K : zm_K) (a0 : zm_R) (a1 : Int32) (a2 : Int32) : zm_M Int32 :=
  zm_bnd (zm_bnd (zm_is a0 20) fun _ => fn_X3_ofWish K a0 a1 1) fun v3 =>
  zm_bnd (zm_bnd (zm_is a0 20) fun _ => fn_X3_ofWish K a0 a2 1) fun v9 =>
  if (v3 - v9) = 0 then
    zm_bnd (zm_bnd (zm_is a0 20) fun _ => fn_X3_ofWish K a0 a1 0) fun v31 =>
    zm_bnd (zm_bnd (zm_is a0 20) fun _ => fn_X3_ofWish K a0 a2 0) fun v37 =>
    if (v31 - v37) = 0 then
      if a2 ≤ a1 then
        zm_ret 0
      else
        zm_ret 1
    else
      if 0 ≤ (v31 - v37) then
        zm_ret 0
      else
        zm_ret 1
  else
    if 0 ≤ (v3 - v9) then
      zm_ret 0
    else
      zm_ret 1
theorem ct_X3_isWishAhead {l : Launch} {Ω : zm_W} {K : zm_K} (H : zm_H Ω K) (a0 : zm_R) (a1 : Int32) (a2 : Int32) : zm_Ct l Ω yX3_isWishAhead (ws_ yX3_isWishAhead cX3_isWishAhead 5 (Option.some Jvm.ClassFile.FieldType.boolean)) 3 107 [va_rf a0, .int a1, .int a2] zm_tvI (fn_X3_isWishAhead K a0 a1 a2) := by
  refine zm_ct H.1 (by decide +kernel) (zl_le (zl_R (zl_I (zl_I zl_nil))) (Nat.le_of_ble_eq_true rfl)) ?_
  intro p e R s m args below meth c n0 k0 C hX ls hl
  have hx := C.1
  have hb := C.2.1
  simp only [zg_I, zg_R, zg_nil] at hl
  have hl : lv_has ls 5 [(0, va_rf a0), (1, .int a1), (2, .int a2)] := hl
  refine rk_rf ?_
  unfold fn_X3_isWishAhead
  refine rk_of (fun _ _ _ _ _ k => lr_aload_n hx hb dX3_isWishAhead_0 rfl (lv_at hl 0 rfl) (lv_iload_n hx hb dX3_isWishAhead_1 rfl (lv_at hl 1 rfl) (lv_iconst (v := 1) hx hb dX3_isWishAhead_2 rfl k))) ?_
  refine rk_callI hX (cl_V (rest := []) (av := [.int a1, .int 1]) C (hc_X3 H) (ct_X3_ofWish H a0 a1 1) (lw_V q2814 q2816 qs68 q112 q2817) ⟨rfl, hd_X3_ofWish⟩ ⟨(Nat.le_of_ble_eq_true rfl), (Nat.le_of_ble_eq_true rfl)⟩ rfl hl.1 rfl (zw_le zw_nil (Nat.le_of_ble_eq_true rfl)) dX3_isWishAhead_3) (fun v3 => ?_)
  refine rk_of (fun _ _ _ _ _ k => lr_aload_n hx hb dX3_isWishAhead_6 rfl (lv_at hl 0 rfl) (lv_iload_n hx hb dX3_isWishAhead_7 rfl (lv_at hl 2 rfl) (lv_iconst (v := 1) hx hb dX3_isWishAhead_8 rfl k))) ?_
  refine rk_callI hX (cl_V (rest := [.int v3]) (av := [.int a2, .int 1]) C (hc_X3 H) (ct_X3_ofWish H a0 a2 1) (lw_V q2814 q2816 qs68 q112 q2817) ⟨rfl, hd_X3_ofWish⟩ ⟨(Nat.le_of_ble_eq_true rfl), (Nat.le_of_ble_eq_true rfl)⟩ rfl hl.1 rfl (zw_le (zw_I zw_nil) (Nat.le_of_ble_eq_true rfl)) dX3_isWishAhead_9) (fun v9 => ?_)
  refine rk_ofs (fun _ _ _ _ _ k => lv_isub hx hb dX3_isWishAhead_12 (lr_istore_n hx hb dX3_isWishAhead_13 rfl hl (Nat.le_of_ble_eq_true rfl) [0, 1, 2] rfl ⟨trivial, ⟨trivial, ⟨rfl, trivial⟩⟩⟩ k)) (fun ls hl => ?_)
  refine rk_ite (fun _ _ _ _ _ k1 k2 => lv_iload_n hx hb dX3_isWishAhead_14 rfl (lv_at hl 0 rfl) (lv_if_eq (tgt := 28) hx hb dX3_isWishAhead_15 (by decide) k1 k2)) (fun c_15 => ?_) (fun c_15 => ?_)
  · refine rk_of (fun _ _ _ _ _ k => lr_aload_n hx hb dX3_isWishAhead_28 rfl (lv_at hl 1 rfl) (lv_iload_n hx hb dX3_isWishAhead_29 rfl (lv_at hl 2 rfl) (lv_iconst (v := 0) hx hb dX3_isWishAhead_30 rfl k))) ?_
    refine rk_callI hX (cl_V (rest := []) (av := [.int a1, .int 0]) C (hc_X3 H) (ct_X3_ofWish H a0 a1 0) (lw_V q2814 q2816 qs68 q112 q2817) ⟨rfl, hd_X3_ofWish⟩ ⟨(Nat.le_of_ble_eq_true rfl), (Nat.le_of_ble_eq_true rfl)⟩ rfl hl.1 rfl (zw_le zw_nil (Nat.le_of_ble_eq_true rfl)) dX3_isWishAhead_31) (fun v31 => ?_)
    refine rk_of (fun _ _ _ _ _ k => lr_aload_n hx hb dX3_isWishAhead_34 rfl (lv_at hl 1 rfl) (lv_iload_n hx hb dX3_isWishAhead_35 rfl (lv_at hl 3 rfl) (lv_iconst (v := 0) hx hb dX3_isWishAhead_36 rfl k))) ?_
    refine rk_callI hX (cl_V (rest := [.int v31]) (av := [.int a2, .int 0]) C (hc_X3 H) (ct_X3_ofWish H a0 a2 0) (lw_V q2814 q2816 qs68 q112 q2817) ⟨rfl, hd_X3_ofWish⟩ ⟨(Nat.le_of_ble_eq_true rfl), (Nat.le_of_ble_eq_true rfl)⟩ rfl hl.1 rfl (zw_le (zw_I zw_nil) (Nat.le_of_ble_eq_true rfl)) dX3_isWishAhead_37) (fun v37 => ?_)
    refine rk_ofs (fun _ _ _ _ _ k => lv_isub hx hb dX3_isWishAhead_40 (lr_istore hx hb dX3_isWishAhead_41 hl (Nat.le_of_ble_eq_true rfl) [2, 3] rfl ⟨trivial, ⟨trivial, trivial⟩⟩ k)) (fun ls hl => ?_)
    refine rk_ite (fun _ _ _ _ _ k1 k2 => lv_iload hx hb dX3_isWishAhead_43 (lv_at hl 0 rfl) (lv_if_eq (tgt := 61) hx hb dX3_isWishAhead_45 (by decide) k1 k2)) (fun c_45 => ?_) (fun c_45 => ?_)
    · refine rk_ite (fun _ _ _ _ _ k1 k2 => lv_iload_n hx hb dX3_isWishAhead_61 rfl (lv_at hl 1 rfl) (lv_iload_n hx hb dX3_isWishAhead_62 rfl (lv_at hl 2 rfl) (lv_icmp_ge (tgt := 70) hx hb dX3_isWishAhead_63 (by decide) k1 k2))) (fun c_63 => ?_) (fun c_63 => ?_)
      · refine rk_of (fun _ _ _ _ _ k => lv_iconst (v := 0) hx hb dX3_isWishAhead_70 rfl k) ?_
        exact rk_top (rf_iret C rfl dX3_isWishAhead_71)
      · refine rk_of (fun _ _ _ _ _ k => lv_iconst (v := 1) hx hb dX3_isWishAhead_66 rfl (lv_goto (tgt := 71) hx hb dX3_isWishAhead_67 (by decide) k)) ?_
        exact rk_top (rf_iret C rfl dX3_isWishAhead_71)
    · refine rk_ite (fun _ _ _ _ _ k1 k2 => lv_iload hx hb dX3_isWishAhead_48 (lv_at hl 0 rfl) (lv_if_ge (tgt := 57) hx hb dX3_isWishAhead_50 (by decide) k1 k2)) (fun c_50 => ?_) (fun c_50 => ?_)
      · refine rk_of (fun _ _ _ _ _ k => lv_iconst (v := 0) hx hb dX3_isWishAhead_57 rfl (lv_goto (tgt := 71) hx hb dX3_isWishAhead_58 (by decide) k)) ?_
        exact rk_top (rf_iret C rfl dX3_isWishAhead_71)
      · refine rk_of (fun _ _ _ _ _ k => lv_iconst (v := 1) hx hb dX3_isWishAhead_53 rfl (lv_goto (tgt := 71) hx hb dX3_isWishAhead_54 (by decide) k)) ?_
        exact rk_top (rf_iret C rfl dX3_isWishAhead_71)
  · refine rk_ite (fun _ _ _ _ _ k1 k2 => lv_iload_n hx hb dX3_isWishAhead_18 rfl (lv_at hl 0 rfl) (lv_if_ge (tgt := 26) hx hb dX3_isWishAhead_19 (by decide) k1 k2)) (fun c_19 => ?_) (fun c_19 => ?_)
    · refine rk_of (fun _ _ _ _ _ k => lv_iconst (v := 0) hx hb dX3_isWishAhead_26 rfl k) ?_
      exact rk_top (rf_iret C rfl dX3_isWishAhead_27)
    · refine rk_of (fun _ _ _ _ _ k => lv_iconst (v := 1) hx hb dX3_isWishAhead_22 rfl (lv_goto (tgt := 27) hx hb dX3_isWishAhead_23 (by decide) k)) ?_
      exact rk_top (rf_iret C rfl dX3_isWishAhead_27)
theorem hd_X3_nextWish : yX3_nextWish.cls ≠ "java/lang/invoke/MethodHandle" ∧ yX3_nextWish.cls ≠ "java/lang/invoke/VarHandle" ∧ (parseMethodDescriptor yX3_nextWish.desc).map (fun d => d.parameters.length) = some 1 := by decide +kernel
noncomputable def fn_X3_nextWish_4 (K : zm_K) (p0 : zm_R) (p1 : Int32) : Nat → Int32 → Int32 → zm_M (Int32)
  | 0, _, _ => zm_fl
  | n + 1, x2, x3 =>
    zm_bnd (zm_getR p0 20 0) fun v6 =>
    zm_bnd (zm_aldI .int v6 2) fun v10 =>
    if v10 ≤ x3 then
      zm_ret x2
    else
      zm_bnd (α := Int32) (
          if ((p1 >>> (x3 &&& 31)) &&& 1) = 0 then
            if x2 < 0 then
              zm_ret x3
            else
              zm_bnd (zm_bnd (zm_is p0 20) fun _ => fn_X3_isWishAhead K p0 x3 x2) fun v29 =>
              if v29 = 0 then
                zm_ret x2
              else
                zm_ret x3
          else
            zm_ret x2
        ) fun b40 =>
      fn_X3_nextWish_4 K p0 p1 n b40 (x3 + 1)
noncomputable def fn_X3_nextWish (K : zm_K) (a0 : zm_R) (a1 : Int32) : zm_M Int32 :=
  zm_bnd (α := Int32) (fn_X3_nextWish_4 K a0 a1 zm_N (-1) 0) fun b47 =>
  zm_ret b47
theorem rf_X3_nextWish_4 (H : zm_H Ω K) (C : zm_C p l R s m args meth c Ω lw_all cX3_nextWish yX3_nextWish.cls yX3_nextWish.name 4 4 131 (Option.some Jvm.ClassFile.FieldType.int)) (hX : zm_XO p l e R s m args below meth c Ω n0 k0 (zm_QFs below args s Ω n0 k0 zm_tvI)) (p0 : zm_R) (p1 : Int32) : ∀ (n : Nat) (x2 : Int32) (x3 : Int32) (J : (Int32) → zm_M Int32) (ls : Array Slot), lv_has ls 4 [(0, va_rf p0), (1, .int p1), (2, .int x2), (3, .int x3)] → (∀ (b : Int32) (ls : Array Slot), lv_has ls 4 [(2, .int b)] → zm_RK p l e R s m args below meth c Ω n0 k0 (zm_QFs below args s Ω n0 k0 zm_tvI) (zm_ret b) J (F0 m 47 ls [])) → zm_RK p l e R s m args below meth c Ω n0 k0 (zm_QFs below args s Ω n0 k0 zm_tvI) (fn_X3_nextWish_4 K p0 p1 n x2 x3) J (F0 m 4 ls []) := by
  have hx := C.1
  have hb := C.2.1
  intro n
  induction n with
  | zero => intro x2 x3 J ls hl hJ; exact rk_fl
  | succ n ih =>
    intro x2 x3 J ls hl hJ
    unfold fn_X3_nextWish_4
    refine rk_of (fun _ _ _ _ _ k => lv_iload_n hx hb dX3_nextWish_4 rfl (lv_at hl 3 rfl) (lr_aload_n hx hb dX3_nextWish_5 rfl (lv_at hl 0 rfl) k)) ?_
    refine rk_get zm_rdR_eq C (hc_X3 H) (k := 0) (Nat.le_of_ble_eq_true rfl) in_X3 q2577 (fun _ h => h) dX3_nextWish_6 (fun v6 => ?_)
    refine rk_of (fun _ _ _ _ _ k => lv_iconst (v := 2) hx hb dX3_nextWish_9 rfl k) ?_
    refine rk_iald C dX3_nextWish_10 (fun v10 => ?_)
    refine rk_ite (fun _ _ _ _ _ k1 k2 => lv_icmp_ge (tgt := 47) hx hb dX3_nextWish_11 (by decide) k1 k2) (fun c_11 => ?_) (fun c_11 => ?_)
    · exact hJ x2 ls (lv_sub hl [2] rfl)
    · refine rk_of (fun _ _ _ _ _ k => lv_iload_n hx hb dX3_nextWish_14 rfl (lv_at hl 1 rfl) (lv_iload_n hx hb dX3_nextWish_15 rfl (lv_at hl 3 rfl) (lv_ishr hx hb dX3_nextWish_16 (lv_iconst (v := 1) hx hb dX3_nextWish_17 rfl (lv_iand hx hb dX3_nextWish_18 k))))) ?_
      refine rk_join (β := Int32) (fun (b40 : Int32) ls => lv_has ls 4 [(0, va_rf p0), (1, .int p1), (3, .int x3)]) (fun (b40 : Int32) ls => F0 m 40 ls [.int b40]) (fun b40 ls hl => ?_) (fun hJ40 => ?_)
      · refine rk_ofs (fun _ _ _ _ _ k => lr_istore_n hx hb dX3_nextWish_40 rfl hl (Nat.le_of_ble_eq_true rfl) [0, 1, 2] rfl ⟨trivial, ⟨rfl, ⟨trivial, trivial⟩⟩⟩ k) (fun ls hl => ?_)
        refine rk_ofs (fun _ _ _ _ _ k => lr_iinc (v := x3 + 1) hx hb dX3_nextWish_41 hl (k := 3) rfl rfl (Nat.le_of_ble_eq_true rfl) [0, 1, 2] rfl ⟨rfl, ⟨trivial, ⟨trivial, trivial⟩⟩⟩ k) (fun ls hl => ?_)
        refine rk_of (fun _ _ _ _ _ k => lv_goto (tgt := 4) hx hb dX3_nextWish_44 (by decide) k) ?_
        exact ih b40 (x3 + 1) J ls (lv_sub hl [2, 3, 1, 0] rfl) hJ
      · refine rk_ite (fun _ _ _ _ _ k1 k2 => lv_if_ne (tgt := 39) hx hb dX3_nextWish_19 (by decide) k2 k1) (fun c_19 => ?_) (fun c_19 => ?_)
        · refine rk_ite (fun _ _ _ _ _ k1 k2 => lv_iload_n hx hb dX3_nextWish_22 rfl (lv_at hl 2 rfl) (lv_if_lt (tgt := 35) hx hb dX3_nextWish_23 (by decide) k1 k2)) (fun c_23 => ?_) (fun c_23 => ?_)
          · refine rk_of (fun _ _ _ _ _ k => lv_iload_n hx hb dX3_nextWish_35 rfl (lv_at hl 3 rfl) (lv_goto (tgt := 40) hx hb dX3_nextWish_36 (by decide) k)) ?_
            exact hJ40 x3 ls (lv_sub hl [0, 1, 3] rfl)
          · refine rk_of (fun _ _ _ _ _ k => lr_aload_n hx hb dX3_nextWish_26 rfl (lv_at hl 0 rfl) (lv_iload_n hx hb dX3_nextWish_27 rfl (lv_at hl 3 rfl) (lv_iload_n hx hb dX3_nextWish_28 rfl (lv_at hl 2 rfl) k))) ?_
            refine rk_callI hX (cl_V (rest := []) (av := [.int x3, .int x2]) C (hc_X3 H) (ct_X3_isWishAhead H p0 x3 x2) (lw_V q2854 q2856 qs72 q112 q2857) ⟨rfl, hd_X3_isWishAhead⟩ ⟨(Nat.le_of_ble_eq_true rfl), (Nat.le_of_ble_eq_true rfl)⟩ rfl hl.1 rfl (zw_le zw_nil (Nat.le_of_ble_eq_true rfl)) dX3_nextWish_29) (fun v29 => ?_)
            refine rk_ite (fun _ _ _ _ _ k1 k2 => lv_if_eq (tgt := 39) hx hb dX3_nextWish_32 (by decide) k1 k2) (fun c_32 => ?_) (fun c_32 => ?_)
            · refine rk_of (fun _ _ _ _ _ k => lv_iload_n hx hb dX3_nextWish_39 rfl (lv_at hl 2 rfl) k) ?_
              exact hJ40 x2 ls (lv_sub hl [0, 1, 3] rfl)
            · refine rk_of (fun _ _ _ _ _ k => lv_iload_n hx hb dX3_nextWish_35 rfl (lv_at hl 3 rfl) (lv_goto (tgt := 40) hx hb dX3_nextWish_36 (by decide) k)) ?_
              exact hJ40 x3 ls (lv_sub hl [0, 1, 3] rfl)
        · refine rk_of (fun _ _ _ _ _ k => lv_iload_n hx hb dX3_nextWish_39 rfl (lv_at hl 2 rfl) k) ?_
          exact hJ40 x2 ls (lv_sub hl [0, 1, 3] rfl)
theorem ct_X3_nextWish {l : Launch} {Ω : zm_W} {K : zm_K} (H : zm_H Ω K) (a0 : zm_R) (a1 : Int32) : zm_Ct l Ω yX3_nextWish (ws_ yX3_nextWish cX3_nextWish 4 (Option.some Jvm.ClassFile.FieldType.int)) 4 131 [va_rf a0, .int a1] zm_tvI (fn_X3_nextWish K a0 a1) := by
  refine zm_ct H.1 (by decide +kernel) (zl_le (zl_R (zl_I zl_nil)) (Nat.le_of_ble_eq_true rfl)) ?_
  intro p e R s m args below meth c n0 k0 C hX ls hl
  have hx := C.1
  have hb := C.2.1
  simp only [zg_I, zg_R, zg_nil] at hl
  have hl : lv_has ls 4 [(0, va_rf a0), (1, .int a1)] := hl
  refine rk_rf ?_
  unfold fn_X3_nextWish
  refine rk_ofs (fun _ _ _ _ _ k => lv_iconst (v := (-1)) hx hb dX3_nextWish_0 rfl (lr_istore_n hx hb dX3_nextWish_1 rfl hl (Nat.le_of_ble_eq_true rfl) [0, 1] rfl ⟨trivial, ⟨rfl, trivial⟩⟩ k)) (fun ls hl => ?_)
  refine rk_ofs (fun _ _ _ _ _ k => lv_iconst (v := 0) hx hb dX3_nextWish_2 rfl (lr_istore_n hx hb dX3_nextWish_3 rfl hl (Nat.le_of_ble_eq_true rfl) [0, 1, 2] rfl ⟨rfl, ⟨trivial, ⟨trivial, trivial⟩⟩⟩ k)) (fun ls hl => ?_)
  refine rk_join (β := Int32) (fun (b47 : Int32) ls => lv_has ls 4 [(2, .int b47)]) (fun (b47 : Int32) ls => F0 m 47 ls []) (fun b47 ls hl => ?_) (fun hJ47 => ?_)
  · refine rk_of (fun _ _ _ _ _ k => lv_iload_n hx hb dX3_nextWish_47 rfl (lv_at hl 0 rfl) k) ?_
    exact rk_top (rf_iret C rfl dX3_nextWish_48)
  · exact rf_X3_nextWish_4 H C hX a0 a1 zm_N (-1) 0 _ ls (lv_sub hl [2, 3, 1, 0] rfl) hJ47
theorem hd_X3_inTheWay : yX3_inTheWay.cls ≠ "java/lang/invoke/MethodHandle" ∧ yX3_inTheWay.cls ≠ "java/lang/invoke/VarHandle" ∧ (parseMethodDescriptor yX3_inTheWay.desc).map (fun d => d.parameters.length) = some 4 := by decide +kernel
noncomputable def fn_X3_inTheWay_6 (K : zm_K) (p0 : zm_R) (p1 : Int32) (p2 : Int32) (p3 : Int32) (p4 : Int32) : Nat → Int32 → Int32 → zm_M (Int32)
  | 0, _, _ => zm_fl
  | n + 1, x5, x6 =>
    zm_bnd (zm_getR p0 20 0) fun v9 =>
    zm_bnd (zm_aldI .int v9 1) fun v13 =>
    if v13 ≤ x6 then
      zm_ret x5
    else
      zm_bnd (α := Int32) (
          if x6 = p4 then
            zm_ret 0
          else
            zm_bnd (zm_bnd (zm_is p0 20) fun _ => fn_X3_isOver K p0 x6) fun v27 =>
            if v27 = 0 then
              zm_bnd (zm_bnd (zm_is p0 20) fun _ => fn_X3_ofLetting K p0 x6 0) fun v37 =>
              if v37 = p1 then
                zm_bnd (zm_bnd (zm_is p0 20) fun _ => fn_X3_ofLetting K p0 x6 1) fun v48 =>
                if p3 ≤ v48 then
                  zm_ret 0
                else
                  zm_bnd (zm_bnd (zm_is p0 20) fun _ => fn_X3_ofLetting K p0 x6 2) fun v59 =>
                  if v59 ≤ p2 then
                    zm_ret 0
                  else
                    zm_ret 1
              else
                zm_ret 0
            else
              zm_ret 0
        ) fun b71 =>
      zm_bnd (α := Int32) (
          if b71 = 0 then
            zm_ret x5
          else
            if x5 < 0 then
              zm_ret x6
            else
              zm_bnd (zm_bnd (zm_is p0 20) fun _ => fn_X3_ofLetting K p0 x6 1) fun v87 =>
              zm_bnd (zm_bnd (zm_is p0 20) fun _ => fn_X3_ofLetting K p0 x5 1) fun v94 =>
              if v94 ≤ v87 then
                zm_ret x5
              else
                zm_ret x6
        ) fun b107 =>
      fn_X3_inTheWay_6 K p0 p1 p2 p3 p4 n b107 (x6 + 1)
noncomputable def fn_X3_inTheWay (K : zm_K) (a0 : zm_R) (a1 : Int32) (a2 : Int32) (a3 : Int32) (a4 : Int32) : zm_M Int32 :=
  zm_bnd (α := Int32) (fn_X3_inTheWay_6 K a0 a1 a2 a3 a4 zm_N (-1) 0) fun b115 =>
  zm_ret b115
theorem rf_X3_inTheWay_6 (H : zm_H Ω K) (C : zm_C p l R s m args meth c Ω lw_all cX3_inTheWay yX3_inTheWay.cls yX3_inTheWay.name 8 4 128 (Option.some Jvm.ClassFile.FieldType.int)) (hX : zm_XO p l e R s m args below meth c Ω n0 k0 (zm_QFs below args s Ω n0 k0 zm_tvI)) (p0 : zm_R) (p1 : Int32) (p2 : Int32) (p3 : Int32) (p4 : Int32) : ∀ (n : Nat) (x5 : Int32) (x6 : Int32) (J : (Int32) → zm_M Int32) (ls : Array Slot), lv_has ls 8 [(0, va_rf p0), (1, .int p1), (2, .int p2), (3, .int p3), (4, .int p4), (5, .int x5), (6, .int x6)] → (∀ (b : Int32) (ls : Array Slot), lv_has ls 8 [(5, .int b)] → zm_RK p l e R s m args below meth c Ω n0 k0 (zm_QFs below args s Ω n0 k0 zm_tvI) (zm_ret b) J (F0 m 115 ls [])) → zm_RK p l e R s m args below meth c Ω n0 k0 (zm_QFs below args s Ω n0 k0 zm_tvI) (fn_X3_inTheWay_6 K p0 p1 p2 p3 p4 n x5 x6) J (F0 m 6 ls []) := by
  have hx := C.1
  have hb := C.2.1
  intro n
  induction n with
  | zero => intro x5 x6 J ls hl hJ; exact rk_fl
  | succ n ih =>
    intro x5 x6 J ls hl hJ
    unfold fn_X3_inTheWay_6
    refine rk_of (fun _ _ _ _ _ k => lv_iload hx hb dX3_inTheWay_6 (lv_at hl 6 rfl) (lr_aload_n hx hb dX3_inTheWay_8 rfl (lv_at hl 0 rfl) k)) ?_
    refine rk_get zm_rdR_eq C (hc_X3 H) (k := 0) (Nat.le_of_ble_eq_true rfl) in_X3 q2577 (fun _ h => h) dX3_inTheWay_9 (fun v9 => ?_)
    refine rk_of (fun _ _ _ _ _ k => lv_iconst (v := 1) hx hb dX3_inTheWay_12 rfl k) ?_
    refine rk_iald C dX3_inTheWay_13 (fun v13 => ?_)
    refine rk_ite (fun _ _ _ _ _ k1 k2 => lv_icmp_ge (tgt := 115) hx hb dX3_inTheWay_14 (by decide) k1 k2) (fun c_14 => ?_) (fun c_14 => ?_)
    · exact hJ x5 ls (lv_sub hl [5] rfl)
    · refine rk_of (fun _ _ _ _ _ k => lv_iload hx hb dX3_inTheWay_17 (lv_at hl 6 rfl) (lv_iload hx hb dX3_inTheWay_19 (lv_at hl 4 rfl) k)) ?_
      refine rk_join (β := Int32) (fun (b71 : Int32) ls => lv_has ls 8 [(0, va_rf p0), (1, .int p1), (2, .int p2), (3, .int p3), (4, .int p4), (5, .int x5), (6, .int x6)]) (fun (b71 : Int32) ls => F0 m 71 ls [.int b71]) (fun b71 ls hl => ?_) (fun hJ71 => ?_)
      · refine rk_ofs (fun _ _ _ _ _ k => lr_istore hx hb dX3_inTheWay_71 hl (Nat.le_of_ble_eq_true rfl) [0, 1, 2, 3, 4, 5, 6] rfl ⟨trivial, ⟨trivial, ⟨trivial, ⟨trivial, ⟨trivial, ⟨trivial, ⟨rfl, trivial⟩⟩⟩⟩⟩⟩⟩ k) (fun ls hl => ?_)
        refine rk_of (fun _ _ _ _ _ k => lv_iload hx hb dX3_inTheWay_73 (lv_at hl 0 rfl) k) ?_
        refine rk_join (β := Int32) (fun (b107 : Int32) ls => lv_has ls 8 [(0, va_rf p0), (1, .int p1), (2, .int p2), (3, .int p3), (4, .int p4), (6, .int x6)]) (fun (b107 : Int32) ls => F0 m 107 ls [.int b107]) (fun b107 ls hl => ?_) (fun hJ107 => ?_)
        · refine rk_ofs (fun _ _ _ _ _ k => lr_istore hx hb dX3_inTheWay_107 hl (Nat.le_of_ble_eq_true rfl) [0, 1, 2, 3, 4, 5] rfl ⟨trivial, ⟨trivial, ⟨trivial, ⟨trivial, ⟨rfl, ⟨trivial, trivial⟩⟩⟩⟩⟩⟩ k) (fun ls hl => ?_)
          refine rk_ofs (fun _ _ _ _ _ k => lr_iinc (v := x6 + 1) hx hb dX3_inTheWay_109 hl (k := 6) rfl rfl (Nat.le_of_ble_eq_true rfl) [0, 1, 2, 3, 4, 5] rfl ⟨rfl, ⟨trivial, ⟨trivial, ⟨trivial, ⟨trivial, ⟨trivial, trivial⟩⟩⟩⟩⟩⟩ k) (fun ls hl => ?_)
          refine rk_of (fun _ _ _ _ _ k => lv_goto (tgt := 6) hx hb dX3_inTheWay_112 (by decide) k) ?_
          exact ih b107 (x6 + 1) J ls (lv_sub hl [2, 3, 4, 5, 6, 1, 0] rfl) hJ
        · refine rk_ite (fun _ _ _ _ _ k1 k2 => lv_if_eq (tgt := 105) hx hb dX3_inTheWay_75 (by decide) k1 k2) (fun c_75 => ?_) (fun c_75 => ?_)
          · refine rk_of (fun _ _ _ _ _ k => lv_iload hx hb dX3_inTheWay_105 (lv_at hl 6 rfl) k) ?_
            exact hJ107 x5 ls (lv_sub hl [1, 2, 3, 4, 5, 7] rfl)
          · refine rk_ite (fun _ _ _ _ _ k1 k2 => lv_iload hx hb dX3_inTheWay_78 (lv_at hl 6 rfl) (lv_if_lt (tgt := 100) hx hb dX3_inTheWay_80 (by decide) k1 k2)) (fun c_80 => ?_) (fun c_80 => ?_)
            · refine rk_of (fun _ _ _ _ _ k => lv_iload hx hb dX3_inTheWay_100 (lv_at hl 7 rfl) (lv_goto (tgt := 107) hx hb dX3_inTheWay_102 (by decide) k)) ?_
              exact hJ107 x6 ls (lv_sub hl [1, 2, 3, 4, 5, 7] rfl)
            · refine rk_of (fun _ _ _ _ _ k => lr_aload_n hx hb dX3_inTheWay_83 rfl (lv_at hl 1 rfl) (lv_iload hx hb dX3_inTheWay_84 (lv_at hl 7 rfl) (lv_iconst (v := 1) hx hb dX3_inTheWay_86 rfl k))) ?_
              refine rk_callI hX (cl_V (rest := []) (av := [.int x6, .int 1]) C (hc_X3 H) (ct_X3_ofLetting H p0 x6 1) (lw_V q2707 q2709 qs54 q112 q2710) ⟨rfl, hd_X3_ofLetting⟩ ⟨(Nat.le_of_ble_eq_true rfl), (Nat.le_of_ble_eq_true rfl)⟩ rfl hl.1 rfl (zw_le zw_nil (Nat.le_of_ble_eq_true rfl)) dX3_inTheWay_87) (fun v87 => ?_)
              refine rk_of (fun _ _ _ _ _ k => lr_aload_n hx hb dX3_inTheWay_90 rfl (lv_at hl 1 rfl) (lv_iload hx hb dX3_inTheWay_91 (lv_at hl 6 rfl) (lv_iconst (v := 1) hx hb dX3_inTheWay_93 rfl k))) ?_
              refine rk_callI hX (cl_V (rest := [.int v87]) (av := [.int x5, .int 1]) C (hc_X3 H) (ct_X3_ofLetting H p0 x5 1) (lw_V q2707 q2709 qs54 q112 q2710) ⟨rfl, hd_X3_ofLetting⟩ ⟨(Nat.le_of_ble_eq_true rfl), (Nat.le_of_ble_eq_true rfl)⟩ rfl hl.1 rfl (zw_le (zw_I zw_nil) (Nat.le_of_ble_eq_true rfl)) dX3_inTheWay_94) (fun v94 => ?_)
              refine rk_ite (fun _ _ _ _ _ k1 k2 => lv_icmp_ge (tgt := 105) hx hb dX3_inTheWay_97 (by decide) k1 k2) (fun c_97 => ?_) (fun c_97 => ?_)
              · refine rk_of (fun _ _ _ _ _ k => lv_iload hx hb dX3_inTheWay_105 (lv_at hl 6 rfl) k) ?_
                exact hJ107 x5 ls (lv_sub hl [1, 2, 3, 4, 5, 7] rfl)
              · refine rk_of (fun _ _ _ _ _ k => lv_iload hx hb dX3_inTheWay_100 (lv_at hl 7 rfl) (lv_goto (tgt := 107) hx hb dX3_inTheWay_102 (by decide) k)) ?_
                exact hJ107 x6 ls (lv_sub hl [1, 2, 3, 4, 5, 7] rfl)
      · refine rk_ite (fun _ _ _ _ _ k1 k2 => lv_icmp_eq (tgt := 70) hx hb dX3_inTheWay_21 (by decide) k1 k2) (fun c_21 => ?_) (fun c_21 => ?_)
        · refine rk_of (fun _ _ _ _ _ k => lv_iconst (v := 0) hx hb dX3_inTheWay_70 rfl k) ?_
          exact hJ71 0 ls (lv_sub hl [0, 1, 2, 3, 4, 5, 6] rfl)
        · refine rk_of (fun _ _ _ _ _ k => lr_aload_n hx hb dX3_inTheWay_24 rfl (lv_at hl 0 rfl) (lv_iload hx hb dX3_inTheWay_25 (lv_at hl 6 rfl) k)) ?_
          refine rk_callI hX (cl_V (rest := []) (av := [.int x6]) C (hc_X3 H) (ct_X3_isOver H p0 x6) (lw_V q2703 q2705 qs53 q112 q2706) ⟨rfl, hd_X3_isOver⟩ ⟨(Nat.le_of_ble_eq_true rfl), (Nat.le_of_ble_eq_true rfl)⟩ rfl hl.1 rfl (zw_le zw_nil (Nat.le_of_ble_eq_true rfl)) dX3_inTheWay_27) (fun v27 => ?_)
          refine rk_ite (fun _ _ _ _ _ k1 k2 => lv_if_ne (tgt := 70) hx hb dX3_inTheWay_30 (by decide) k2 k1) (fun c_30 => ?_) (fun c_30 => ?_)
          · refine rk_of (fun _ _ _ _ _ k => lr_aload_n hx hb dX3_inTheWay_33 rfl (lv_at hl 0 rfl) (lv_iload hx hb dX3_inTheWay_34 (lv_at hl 6 rfl) (lv_iconst (v := 0) hx hb dX3_inTheWay_36 rfl k))) ?_
            refine rk_callI hX (cl_V (rest := []) (av := [.int x6, .int 0]) C (hc_X3 H) (ct_X3_ofLetting H p0 x6 0) (lw_V q2707 q2709 qs54 q112 q2710) ⟨rfl, hd_X3_ofLetting⟩ ⟨(Nat.le_of_ble_eq_true rfl), (Nat.le_of_ble_eq_true rfl)⟩ rfl hl.1 rfl (zw_le zw_nil (Nat.le_of_ble_eq_true rfl)) dX3_inTheWay_37) (fun v37 => ?_)
            refine rk_ite (fun _ _ _ _ _ k1 k2 => lv_iload_n hx hb dX3_inTheWay_40 rfl (lv_at hl 1 rfl) (lv_icmp_ne (tgt := 70) hx hb dX3_inTheWay_41 (by decide) k2 k1)) (fun c_41 => ?_) (fun c_41 => ?_)
            · refine rk_of (fun _ _ _ _ _ k => lr_aload_n hx hb dX3_inTheWay_44 rfl (lv_at hl 0 rfl) (lv_iload hx hb dX3_inTheWay_45 (lv_at hl 6 rfl) (lv_iconst (v := 1) hx hb dX3_inTheWay_47 rfl k))) ?_
              refine rk_callI hX (cl_V (rest := []) (av := [.int x6, .int 1]) C (hc_X3 H) (ct_X3_ofLetting H p0 x6 1) (lw_V q2707 q2709 qs54 q112 q2710) ⟨rfl, hd_X3_ofLetting⟩ ⟨(Nat.le_of_ble_eq_true rfl), (Nat.le_of_ble_eq_true rfl)⟩ rfl hl.1 rfl (zw_le zw_nil (Nat.le_of_ble_eq_true rfl)) dX3_inTheWay_48) (fun v48 => ?_)
              refine rk_ite (fun _ _ _ _ _ k1 k2 => lv_iload_n hx hb dX3_inTheWay_51 rfl (lv_at hl 3 rfl) (lv_icmp_ge (tgt := 70) hx hb dX3_inTheWay_52 (by decide) k1 k2)) (fun c_52 => ?_) (fun c_52 => ?_)
              · refine rk_of (fun _ _ _ _ _ k => lv_iconst (v := 0) hx hb dX3_inTheWay_70 rfl k) ?_
                exact hJ71 0 ls (lv_sub hl [0, 1, 2, 3, 4, 5, 6] rfl)
              · refine rk_of (fun _ _ _ _ _ k => lr_aload_n hx hb dX3_inTheWay_55 rfl (lv_at hl 0 rfl) (lv_iload hx hb dX3_inTheWay_56 (lv_at hl 6 rfl) (lv_iconst (v := 2) hx hb dX3_inTheWay_58 rfl k))) ?_
                refine rk_callI hX (cl_V (rest := []) (av := [.int x6, .int 2]) C (hc_X3 H) (ct_X3_ofLetting H p0 x6 2) (lw_V q2707 q2709 qs54 q112 q2710) ⟨rfl, hd_X3_ofLetting⟩ ⟨(Nat.le_of_ble_eq_true rfl), (Nat.le_of_ble_eq_true rfl)⟩ rfl hl.1 rfl (zw_le zw_nil (Nat.le_of_ble_eq_true rfl)) dX3_inTheWay_59) (fun v59 => ?_)
                refine rk_ite (fun _ _ _ _ _ k1 k2 => lv_iload_n hx hb dX3_inTheWay_62 rfl (lv_at hl 2 rfl) (lv_icmp_le (tgt := 70) hx hb dX3_inTheWay_63 (by decide) k1 k2)) (fun c_63 => ?_) (fun c_63 => ?_)
                · refine rk_of (fun _ _ _ _ _ k => lv_iconst (v := 0) hx hb dX3_inTheWay_70 rfl k) ?_
                  exact hJ71 0 ls (lv_sub hl [0, 1, 2, 3, 4, 5, 6] rfl)
                · refine rk_of (fun _ _ _ _ _ k => lv_iconst (v := 1) hx hb dX3_inTheWay_66 rfl (lv_goto (tgt := 71) hx hb dX3_inTheWay_67 (by decide) k)) ?_
                  exact hJ71 1 ls (lv_sub hl [0, 1, 2, 3, 4, 5, 6] rfl)
            · refine rk_of (fun _ _ _ _ _ k => lv_iconst (v := 0) hx hb dX3_inTheWay_70 rfl k) ?_
              exact hJ71 0 ls (lv_sub hl [0, 1, 2, 3, 4, 5, 6] rfl)
          · refine rk_of (fun _ _ _ _ _ k => lv_iconst (v := 0) hx hb dX3_inTheWay_70 rfl k) ?_
            exact hJ71 0 ls (lv_sub hl [0, 1, 2, 3, 4, 5, 6] rfl)
theorem ct_X3_inTheWay {l : Launch} {Ω : zm_W} {K : zm_K} (H : zm_H Ω K) (a0 : zm_R) (a1 : Int32) (a2 : Int32) (a3 : Int32) (a4 : Int32) : zm_Ct l Ω yX3_inTheWay (ws_ yX3_inTheWay cX3_inTheWay 8 (Option.some Jvm.ClassFile.FieldType.int)) 4 128 [va_rf a0, .int a1, .int a2, .int a3, .int a4] zm_tvI (fn_X3_inTheWay K a0 a1 a2 a3 a4) := by
  refine zm_ct H.1 (by decide +kernel) (zl_le (zl_R (zl_I (zl_I (zl_I (zl_I zl_nil))))) (Nat.le_of_ble_eq_true rfl)) ?_
  intro p e R s m args below meth c n0 k0 C hX ls hl
  have hx := C.1
  have hb := C.2.1
  simp only [zg_I, zg_R, zg_nil] at hl
  have hl : lv_has ls 8 [(0, va_rf a0), (1, .int a1), (2, .int a2), (3, .int a3), (4, .int a4)] := hl
  refine rk_rf ?_
  unfold fn_X3_inTheWay
  refine rk_ofs (fun _ _ _ _ _ k => lv_iconst (v := (-1)) hx hb dX3_inTheWay_0 rfl (lr_istore hx hb dX3_inTheWay_1 hl (Nat.le_of_ble_eq_true rfl) [0, 1, 2, 3, 4] rfl ⟨trivial, ⟨trivial, ⟨trivial, ⟨trivial, ⟨rfl, trivial⟩⟩⟩⟩⟩ k)) (fun ls hl => ?_)
  refine rk_ofs (fun _ _ _ _ _ k => lv_iconst (v := 0) hx hb dX3_inTheWay_3 rfl (lr_istore hx hb dX3_inTheWay_4 hl (Nat.le_of_ble_eq_true rfl) [0, 1, 2, 3, 4, 5] rfl ⟨rfl, ⟨trivial, ⟨trivial, ⟨trivial, ⟨trivial, ⟨trivial, trivial⟩⟩⟩⟩⟩⟩ k)) (fun ls hl => ?_)
  refine rk_join (β := Int32) (fun (b115 : Int32) ls => lv_has ls 8 [(5, .int b115)]) (fun (b115 : Int32) ls => F0 m 115 ls []) (fun b115 ls hl => ?_) (fun hJ115 => ?_)
  · refine rk_of (fun _ _ _ _ _ k => lv_iload hx hb dX3_inTheWay_115 (lv_at hl 0 rfl) k) ?_
    exact rk_top (rf_iret C rfl dX3_inTheWay_117)
  · exact rf_X3_inTheWay_6 H C hX a0 a1 a2 a3 a4 zm_N (-1) 0 _ ls (lv_sub hl [2, 3, 4, 5, 6, 1, 0] rfl) hJ115
theorem hd_X3_room : yX3_room.cls ≠ "java/lang/invoke/MethodHandle" ∧ yX3_room.cls ≠ "java/lang/invoke/VarHandle" ∧ (parseMethodDescriptor yX3_room.desc).map (fun d => d.parameters.length) = some 3 := by decide +kernel
noncomputable def fn_X3_room_3 (K : zm_K) (p0 : zm_R) (p1 : Int32) (p2 : Int32) (p3 : Int32) : Nat → Int32 → zm_M ((Unit) ⊕ (Int32))
  | 0, _ => zm_fl
  | n + 1, x4 =>
    zm_bnd (zm_getR p0 20 0) fun v6 =>
    zm_bnd (zm_aldI .int v6 0) fun v10 =>
    if v10 ≤ x4 then
      zm_ret (Sum.inl ())
    else
      zm_bnd (zm_getR p0 20 0) fun v15 =>
      zm_bnd (zm_aldI .int v15 (6 + x4)) fun v23 =>
      zm_bnx (β := Unit) (
          if v23 < p1 then
            zm_ret (Sum.inl ())
          else
            zm_bnd (zm_bnd (zm_is p0 20) fun _ => fn_X3_inTheWay K p0 x4 p2 p3 (-1)) fun v34 =>
            if 0 ≤ v34 then
              zm_ret (Sum.inl ())
            else
              zm_ret (Sum.inr (Sum.inr x4))
        ) fun (_ : Unit) =>
      fn_X3_room_3 K p0 p1 p2 p3 n (x4 + 1)
noncomputable def fn_X3_room (K : zm_K) (a0 : zm_R) (a1 : Int32) (a2 : Int32) (a3 : Int32) : zm_M Int32 :=
  zm_bnx (β := Unit) (fn_X3_room_3 K a0 a1 a2 a3 zm_N 0) fun (_ : Unit) =>
  zm_ret (-1)
theorem rf_X3_room_3 (H : zm_H Ω K) (C : zm_C p l R s m args meth c Ω lw_all cX3_room yX3_room.cls yX3_room.name 5 5 155 (Option.some Jvm.ClassFile.FieldType.int)) (hX : zm_XO p l e R s m args below meth c Ω n0 k0 (zm_QFs below args s Ω n0 k0 zm_tvI)) (p0 : zm_R) (p1 : Int32) (p2 : Int32) (p3 : Int32) : ∀ (n : Nat) (x4 : Int32) (J : ((Unit) ⊕ (Int32)) → zm_M Int32) (ls : Array Slot), lv_has ls 5 [(0, va_rf p0), (1, .int p1), (2, .int p2), (3, .int p3), (4, .int x4)] → (∀ (b : Unit) (ls : Array Slot), lv_has ls 5 [] → zm_RK p l e R s m args below meth c Ω n0 k0 (zm_QFs below args s Ω n0 k0 zm_tvI) (zm_ret (Sum.inl b)) J (F0 m 49 ls [])) → (∀ (v : Int32) (g : JFrame), zm_RF p l e R s m args below meth c Ω n0 k0 (zm_QFs below args s Ω n0 k0 zm_tvI) (zm_ret v) g → zm_RK p l e R s m args below meth c Ω n0 k0 (zm_QFs below args s Ω n0 k0 zm_tvI) (zm_ret (Sum.inr v)) J g) → zm_RK p l e R s m args below meth c Ω n0 k0 (zm_QFs below args s Ω n0 k0 zm_tvI) (fn_X3_room_3 K p0 p1 p2 p3 n x4) J (F0 m 3 ls []) := by
  have hx := C.1
  have hb := C.2.1
  intro n
  induction n with
  | zero => intro x4 J ls hl hJ hR; exact rk_fl
  | succ n ih =>
    intro x4 J ls hl hJ hR
    unfold fn_X3_room_3
    refine rk_of (fun _ _ _ _ _ k => lv_iload hx hb dX3_room_3 (lv_at hl 4 rfl) (lr_aload_n hx hb dX3_room_5 rfl (lv_at hl 0 rfl) k)) ?_
    refine rk_get zm_rdR_eq C (hc_X3 H) (k := 0) (Nat.le_of_ble_eq_true rfl) in_X3 q2577 (fun _ h => h) dX3_room_6 (fun v6 => ?_)
    refine rk_of (fun _ _ _ _ _ k => lv_iconst (v := 0) hx hb dX3_room_9 rfl k) ?_
    refine rk_iald C dX3_room_10 (fun v10 => ?_)
    refine rk_ite (fun _ _ _ _ _ k1 k2 => lv_icmp_ge (tgt := 49) hx hb dX3_room_11 (by decide) k1 k2) (fun c_11 => ?_) (fun c_11 => ?_)
    · exact hJ () ls (lv_sub hl [] rfl)
    · refine rk_of (fun _ _ _ _ _ k => lr_aload_n hx hb dX3_room_14 rfl (lv_at hl 0 rfl) k) ?_
      refine rk_get zm_rdR_eq C (hc_X3 H) (k := 0) (Nat.le_of_ble_eq_true rfl) in_X3 q2577 (fun _ h => h) dX3_room_15 (fun v15 => ?_)
      refine rk_of (fun _ _ _ _ _ k => lv_bipush (v := 6) hx hb dX3_room_18 rfl (lv_iload hx hb dX3_room_20 (lv_at hl 4 rfl) (lv_iadd hx hb dX3_room_22 k))) ?_
      refine rk_iald C dX3_room_23 (fun v23 => ?_)
      refine rk_of (fun _ _ _ _ _ k => lv_iload_n hx hb dX3_room_24 rfl (lv_at hl 1 rfl) k) ?_
      refine rk_joinx (β := Unit) (fun (b43 : Unit) ls => lv_has ls 5 [(0, va_rf p0), (1, .int p1), (2, .int p2), (3, .int p3), (4, .int x4)]) (fun (b43 : Unit) ls => F0 m 43 ls []) (fun b43 ls hl => ?_) (fun hJ43 => ?_)
      · refine rk_ofs (fun _ _ _ _ _ k => lr_iinc (v := x4 + 1) hx hb dX3_room_43 hl (k := 4) rfl rfl (Nat.le_of_ble_eq_true rfl) [0, 1, 2, 3] rfl ⟨trivial, ⟨trivial, ⟨trivial, ⟨rfl, trivial⟩⟩⟩⟩ k) (fun ls hl => ?_)
        refine rk_of (fun _ _ _ _ _ k => lv_goto (tgt := 3) hx hb dX3_room_46 (by decide) k) ?_
        exact ih (x4 + 1) J ls (lv_sub hl [1, 2, 3, 4, 0] rfl) hJ hR
      · refine rk_ite (fun _ _ _ _ _ k1 k2 => lv_icmp_lt (tgt := 43) hx hb dX3_room_25 (by decide) k1 k2) (fun c_25 => ?_) (fun c_25 => ?_)
        · exact hJ43 () ls (lv_sub hl [0, 1, 2, 3, 4] rfl)
        · refine rk_of (fun _ _ _ _ _ k => lr_aload_n hx hb dX3_room_28 rfl (lv_at hl 0 rfl) (lv_iload hx hb dX3_room_29 (lv_at hl 4 rfl) (lv_iload_n hx hb dX3_room_31 rfl (lv_at hl 2 rfl) (lv_iload_n hx hb dX3_room_32 rfl (lv_at hl 3 rfl) (lv_iconst (v := (-1)) hx hb dX3_room_33 rfl k))))) ?_
          refine rk_callI hX (cl_V (rest := []) (av := [.int x4, .int p2, .int p3, .int (-1)]) C (hc_X3 H) (ct_X3_inTheWay H p0 x4 p2 p3 (-1)) (lw_V q2699 q2701 qs52 q112 q2702) ⟨rfl, hd_X3_inTheWay⟩ ⟨(Nat.le_of_ble_eq_true rfl), (Nat.le_of_ble_eq_true rfl)⟩ rfl hl.1 rfl (zw_le zw_nil (Nat.le_of_ble_eq_true rfl)) dX3_room_34) (fun v34 => ?_)
          refine rk_ite (fun _ _ _ _ _ k1 k2 => lv_if_ge (tgt := 43) hx hb dX3_room_37 (by decide) k1 k2) (fun c_37 => ?_) (fun c_37 => ?_)
          · exact hJ43 () ls (lv_sub hl [0, 1, 2, 3, 4] rfl)
          · refine rk_of (fun _ _ _ _ _ k => lv_iload hx hb dX3_room_40 (lv_at hl 4 rfl) k) ?_
            refine rk_inr ?_
            exact hR _ _ (rf_iret C rfl dX3_room_42)
theorem ct_X3_room {l : Launch} {Ω : zm_W} {K : zm_K} (H : zm_H Ω K) (a0 : zm_R) (a1 : Int32) (a2 : Int32) (a3 : Int32) : zm_Ct l Ω yX3_room (ws_ yX3_room cX3_room 5 (Option.some Jvm.ClassFile.FieldType.int)) 5 155 [va_rf a0, .int a1, .int a2, .int a3] zm_tvI (fn_X3_room K a0 a1 a2 a3) := by
  refine zm_ct H.1 (by decide +kernel) (zl_le (zl_R (zl_I (zl_I (zl_I zl_nil)))) (Nat.le_of_ble_eq_true rfl)) ?_
  intro p e R s m args below meth c n0 k0 C hX ls hl
  have hx := C.1
  have hb := C.2.1
  simp only [zg_I, zg_R, zg_nil] at hl
  have hl : lv_has ls 5 [(0, va_rf a0), (1, .int a1), (2, .int a2), (3, .int a3)] := hl
  refine rk_rf ?_
  unfold fn_X3_room
  refine rk_ofs (fun _ _ _ _ _ k => lv_iconst (v := 0) hx hb dX3_room_0 rfl (lr_istore hx hb dX3_room_1 hl (Nat.le_of_ble_eq_true rfl) [0, 1, 2, 3] rfl ⟨trivial, ⟨trivial, ⟨trivial, ⟨rfl, trivial⟩⟩⟩⟩ k)) (fun ls hl => ?_)
  refine rk_joinx (β := Unit) (fun (b49 : Unit) ls => lv_has ls 5 []) (fun (b49 : Unit) ls => F0 m 49 ls []) (fun b49 ls hl => ?_) (fun hJ49 => ?_)
  · refine rk_of (fun _ _ _ _ _ k => lv_iconst (v := (-1)) hx hb dX3_room_49 rfl k) ?_
    exact rk_top (rf_iret C rfl dX3_room_50)
  · exact rf_X3_room_3 H C hX a0 a1 a2 a3 zm_N 0 _ ls (lv_sub hl [1, 2, 3, 4, 0] rfl) hJ49 (fun v g k9 => by
        refine rk_inr ?_
        exact rk_top (k9))
theorem hd_X3_makes : yX3_makes.cls ≠ "java/lang/invoke/MethodHandle" ∧ yX3_makes.cls ≠ "java/lang/invoke/VarHandle" ∧ (parseMethodDescriptor yX3_makes.desc).map (fun d => d.parameters.length) = some 4 := by decide +kernel
noncomputable def fn_X3_makes (K : zm_K) (a0 : zm_R) (a1 : Int32) (a2 : Int32) (a3 : Int32) (a4 : Int32) : zm_M Int32 :=
  zm_bnd (zm_getR a0 20 0) fun v1 =>
  zm_bnd (zm_aldI .int v1 1) fun v5 =>
  zm_bnd (zm_getR a0 20 0) fun v9 =>
  zm_bnd (fn_X3_lettingAt K v5 0) fun v15 =>
  zm_bnd (zm_astI K .int v9 v15 a1) fun _ =>
  zm_bnd (zm_getR a0 20 0) fun v21 =>
  zm_bnd (fn_X3_lettingAt K v5 1) fun v27 =>
  zm_bnd (zm_astI K .int v21 v27 a3) fun _ =>
  zm_bnd (zm_getR a0 20 0) fun v33 =>
  zm_bnd (fn_X3_lettingAt K v5 2) fun v39 =>
  zm_bnd (zm_astI K .int v33 v39 a4) fun _ =>
  zm_bnd (zm_getR a0 20 0) fun v46 =>
  zm_bnd (fn_X3_lettingAt K v5 3) fun v52 =>
  zm_bnd (zm_astI K .int v46 v52 a2) fun _ =>
  zm_bnd (zm_getR a0 20 0) fun v58 =>
  zm_bnd (fn_X3_lettingAt K v5 4) fun v64 =>
  zm_bnd (zm_astI K .int v58 v64 0) fun _ =>
  zm_bnd (zm_getR a0 20 0) fun v70 =>
  zm_bnd (zm_aldI .int v70 1) fun v75 =>
  zm_bnd (zm_astI K .int v70 1 (v75 + 1)) fun _ =>
  zm_ret v5
theorem ct_X3_makes {l : Launch} {Ω : zm_W} {K : zm_K} (H : zm_H Ω K) (a0 : zm_R) (a1 : Int32) (a2 : Int32) (a3 : Int32) (a4 : Int32) : zm_Ct l Ω yX3_makes (ws_ yX3_makes cX3_makes 6 (Option.some Jvm.ClassFile.FieldType.int)) 2 85 [va_rf a0, .int a1, .int a2, .int a3, .int a4] zm_tvI (fn_X3_makes K a0 a1 a2 a3 a4) := by
  refine zm_ct H.1 (by decide +kernel) (zl_le (zl_R (zl_I (zl_I (zl_I (zl_I zl_nil))))) (Nat.le_of_ble_eq_true rfl)) ?_
  intro p e R s m args below meth c n0 k0 C hX ls hl
  have hx := C.1
  have hb := C.2.1
  simp only [zg_I, zg_R, zg_nil] at hl
  have hl : lv_has ls 6 [(0, va_rf a0), (1, .int a1), (2, .int a2), (3, .int a3), (4, .int a4)] := hl
  refine rk_rf ?_
  unfold fn_X3_makes
  refine rk_of (fun _ _ _ _ _ k => lr_aload_n hx hb dX3_makes_0 rfl (lv_at hl 0 rfl) k) ?_
  refine rk_get zm_rdR_eq C (hc_X3 H) (k := 0) (Nat.le_of_ble_eq_true rfl) in_X3 q2577 (fun _ h => h) dX3_makes_1 (fun v1 => ?_)
  refine rk_of (fun _ _ _ _ _ k => lv_iconst (v := 1) hx hb dX3_makes_4 rfl k) ?_
  refine rk_iald C dX3_makes_5 (fun v5 => ?_)
  refine rk_ofs (fun _ _ _ _ _ k => lr_istore hx hb dX3_makes_6 hl (Nat.le_of_ble_eq_true rfl) [0, 1, 2, 3, 4] rfl ⟨trivial, ⟨trivial, ⟨trivial, ⟨trivial, ⟨rfl, trivial⟩⟩⟩⟩⟩ k) (fun ls hl => ?_)
  refine rk_of (fun _ _ _ _ _ k => lr_aload_n hx hb dX3_makes_8 rfl (lv_at hl 1 rfl) k) ?_
  refine rk_get zm_rdR_eq C (hc_X3 H) (k := 0) (Nat.le_of_ble_eq_true rfl) in_X3 q2577 (fun _ h => h) dX3_makes_9 (fun v9 => ?_)
  refine rk_of (fun _ _ _ _ _ k => lv_iload hx hb dX3_makes_12 (lv_at hl 0 rfl) (lv_iconst (v := 0) hx hb dX3_makes_14 rfl k)) ?_
  refine rk_callI hX (cl_S (rest := [va_rf v9]) C (ct_X3_lettingAt H v5 0) (lw_S q2711 q2712 q112 q2713) hd_X3_lettingAt ⟨(Nat.le_of_ble_eq_true rfl), (Nat.le_of_ble_eq_true rfl)⟩ rfl hl.1 rfl (zw_le (zw_R zw_nil) (Nat.le_of_ble_eq_true rfl)) dX3_makes_15) (fun v15 => ?_)
  refine rk_of (fun _ _ _ _ _ k => lv_iload_n hx hb dX3_makes_18 rfl (lv_at hl 2 rfl) k) ?_
  refine rk_iast C H.2.2.1 dX3_makes_19 ?_
  refine rk_of (fun _ _ _ _ _ k => lr_aload_n hx hb dX3_makes_20 rfl (lv_at hl 1 rfl) k) ?_
  refine rk_get zm_rdR_eq C (hc_X3 H) (k := 0) (Nat.le_of_ble_eq_true rfl) in_X3 q2577 (fun _ h => h) dX3_makes_21 (fun v21 => ?_)
  refine rk_of (fun _ _ _ _ _ k => lv_iload hx hb dX3_makes_24 (lv_at hl 0 rfl) (lv_iconst (v := 1) hx hb dX3_makes_26 rfl k)) ?_
  refine rk_callI hX (cl_S (rest := [va_rf v21]) C (ct_X3_lettingAt H v5 1) (lw_S q2711 q2712 q112 q2713) hd_X3_lettingAt ⟨(Nat.le_of_ble_eq_true rfl), (Nat.le_of_ble_eq_true rfl)⟩ rfl hl.1 rfl (zw_le (zw_R zw_nil) (Nat.le_of_ble_eq_true rfl)) dX3_makes_27) (fun v27 => ?_)
  refine rk_of (fun _ _ _ _ _ k => lv_iload_n hx hb dX3_makes_30 rfl (lv_at hl 4 rfl) k) ?_
  refine rk_iast C H.2.2.1 dX3_makes_31 ?_
  refine rk_of (fun _ _ _ _ _ k => lr_aload_n hx hb dX3_makes_32 rfl (lv_at hl 1 rfl) k) ?_
  refine rk_get zm_rdR_eq C (hc_X3 H) (k := 0) (Nat.le_of_ble_eq_true rfl) in_X3 q2577 (fun _ h => h) dX3_makes_33 (fun v33 => ?_)
  refine rk_of (fun _ _ _ _ _ k => lv_iload hx hb dX3_makes_36 (lv_at hl 0 rfl) (lv_iconst (v := 2) hx hb dX3_makes_38 rfl k)) ?_
  refine rk_callI hX (cl_S (rest := [va_rf v33]) C (ct_X3_lettingAt H v5 2) (lw_S q2711 q2712 q112 q2713) hd_X3_lettingAt ⟨(Nat.le_of_ble_eq_true rfl), (Nat.le_of_ble_eq_true rfl)⟩ rfl hl.1 rfl (zw_le (zw_R zw_nil) (Nat.le_of_ble_eq_true rfl)) dX3_makes_39) (fun v39 => ?_)
  refine rk_of (fun _ _ _ _ _ k => lv_iload hx hb dX3_makes_42 (lv_at hl 5 rfl) k) ?_
  refine rk_iast C H.2.2.1 dX3_makes_44 ?_
  refine rk_of (fun _ _ _ _ _ k => lr_aload_n hx hb dX3_makes_45 rfl (lv_at hl 1 rfl) k) ?_
  refine rk_get zm_rdR_eq C (hc_X3 H) (k := 0) (Nat.le_of_ble_eq_true rfl) in_X3 q2577 (fun _ h => h) dX3_makes_46 (fun v46 => ?_)
  refine rk_of (fun _ _ _ _ _ k => lv_iload hx hb dX3_makes_49 (lv_at hl 0 rfl) (lv_iconst (v := 3) hx hb dX3_makes_51 rfl k)) ?_
  refine rk_callI hX (cl_S (rest := [va_rf v46]) C (ct_X3_lettingAt H v5 3) (lw_S q2711 q2712 q112 q2713) hd_X3_lettingAt ⟨(Nat.le_of_ble_eq_true rfl), (Nat.le_of_ble_eq_true rfl)⟩ rfl hl.1 rfl (zw_le (zw_R zw_nil) (Nat.le_of_ble_eq_true rfl)) dX3_makes_52) (fun v52 => ?_)
  refine rk_of (fun _ _ _ _ _ k => lv_iload_n hx hb dX3_makes_55 rfl (lv_at hl 3 rfl) k) ?_
  refine rk_iast C H.2.2.1 dX3_makes_56 ?_
  refine rk_of (fun _ _ _ _ _ k => lr_aload_n hx hb dX3_makes_57 rfl (lv_at hl 1 rfl) k) ?_
  refine rk_get zm_rdR_eq C (hc_X3 H) (k := 0) (Nat.le_of_ble_eq_true rfl) in_X3 q2577 (fun _ h => h) dX3_makes_58 (fun v58 => ?_)
  refine rk_of (fun _ _ _ _ _ k => lv_iload hx hb dX3_makes_61 (lv_at hl 0 rfl) (lv_iconst (v := 4) hx hb dX3_makes_63 rfl k)) ?_
  refine rk_callI hX (cl_S (rest := [va_rf v58]) C (ct_X3_lettingAt H v5 4) (lw_S q2711 q2712 q112 q2713) hd_X3_lettingAt ⟨(Nat.le_of_ble_eq_true rfl), (Nat.le_of_ble_eq_true rfl)⟩ rfl hl.1 rfl (zw_le (zw_R zw_nil) (Nat.le_of_ble_eq_true rfl)) dX3_makes_64) (fun v64 => ?_)
  refine rk_of (fun _ _ _ _ _ k => lv_iconst (v := 0) hx hb dX3_makes_67 rfl k) ?_
  refine rk_iast C H.2.2.1 dX3_makes_68 ?_
  refine rk_of (fun _ _ _ _ _ k => lr_aload_n hx hb dX3_makes_69 rfl (lv_at hl 1 rfl) k) ?_
  refine rk_get zm_rdR_eq C (hc_X3 H) (k := 0) (Nat.le_of_ble_eq_true rfl) in_X3 q2577 (fun _ h => h) dX3_makes_70 (fun v70 => ?_)
  refine rk_of (fun _ _ _ _ _ k => lv_iconst (v := 1) hx hb dX3_makes_73 rfl (lv_dup2_11 hx hb dX3_makes_74 rfl (va_rf_cat _) k)) ?_
  refine rk_iald C dX3_makes_75 (fun v75 => ?_)
  refine rk_of (fun _ _ _ _ _ k => lv_iconst (v := 1) hx hb dX3_makes_76 rfl (lv_iadd hx hb dX3_makes_77 k)) ?_
  refine rk_iast C H.2.2.1 dX3_makes_78 ?_
  refine rk_of (fun _ _ _ _ _ k => lv_iload hx hb dX3_makes_79 (lv_at hl 0 rfl) k) ?_
  exact rk_top (rf_iret C rfl dX3_makes_81)
theorem hd_X3_drops : yX3_drops.cls ≠ "java/lang/invoke/MethodHandle" ∧ yX3_drops.cls ≠ "java/lang/invoke/VarHandle" ∧ (parseMethodDescriptor yX3_drops.desc).map (fun d => d.parameters.length) = some 1 := by decide +kernel
noncomputable def fn_X3_drops_16 (K : zm_K) (p0 : zm_R) : Nat → Int32 → zm_M (Unit)
  | 0, _ => zm_fl
  | n + 1, x2 =>
    zm_bnd (zm_getR p0 20 0) fun v18 =>
    zm_bnd (zm_aldI .int v18 2) fun v22 =>
    zm_bnd (fn_X3_wishAt K v22 0) fun v24 =>
    if v24 ≤ x2 then
      zm_ret ()
    else
      zm_bnd (zm_getR p0 20 0) fun v31 =>
      zm_bnd (zm_getR p0 20 0) fun v36 =>
      zm_bnd (zm_aldI .int v36 (x2 + 3)) fun v42 =>
      zm_bnd (zm_astI K .int v31 x2 v42) fun _ =>
      fn_X3_drops_16 K p0 n (x2 + 1)
noncomputable def fn_X3_drops_52 (K : zm_K) (p0 : zm_R) : Nat → Int32 → zm_M (Unit)
  | 0, _ => zm_fl
  | n + 1, x2 =>
    if 3 ≤ x2 then
      zm_ret ()
    else
      zm_bnd (zm_getR p0 20 0) fun v58 =>
      zm_bnd (zm_getR p0 20 0) fun v62 =>
      zm_bnd (zm_aldI .int v62 2) fun v66 =>
      zm_bnd (fn_X3_wishAt K v66 x2) fun v68 =>
      zm_bnd (zm_astI K .int v58 v68 0) fun _ =>
      fn_X3_drops_52 K p0 n (x2 + 1)
noncomputable def fn_X3_drops (K : zm_K) (a0 : zm_R) (a1 : Int32) : zm_M Int32 :=
  zm_bnd (zm_getR a0 20 0) fun v1 =>
  zm_bnd (zm_aldI .int v1 2) fun v6 =>
  zm_bnd (zm_astI K .int v1 2 (v6 - 1)) fun _ =>
  zm_bnd (fn_X3_wishAt K a1 0) fun v12 =>
  zm_bnd (α := Unit) (fn_X3_drops_16 K a0 zm_N v12) fun (_ : Unit) =>
  zm_bnd (α := Unit) (fn_X3_drops_52 K a0 zm_N 0) fun (_ : Unit) =>
  zm_bnd (zm_getR a0 20 0) fun v80 =>
  zm_bnd (zm_aldI .int v80 2) fun v84 =>
  zm_ret v84
theorem rf_X3_drops_16 (H : zm_H Ω K) (C : zm_C p l R s m args meth c Ω lw_all cX3_drops yX3_drops.cls yX3_drops.name 3 2 85 (Option.some Jvm.ClassFile.FieldType.int)) (hX : zm_XO p l e R s m args below meth c Ω n0 k0 (zm_QFs below args s Ω n0 k0 zm_tvI)) (p0 : zm_R) : ∀ (n : Nat) (x2 : Int32) (J : (Unit) → zm_M Int32) (ls : Array Slot), lv_has ls 3 [(0, va_rf p0), (2, .int x2)] → (∀ (b : Unit) (ls : Array Slot), lv_has ls 3 [(0, va_rf p0)] → zm_RK p l e R s m args below meth c Ω n0 k0 (zm_QFs below args s Ω n0 k0 zm_tvI) (zm_ret b) J (F0 m 50 ls [])) → zm_RK p l e R s m args below meth c Ω n0 k0 (zm_QFs below args s Ω n0 k0 zm_tvI) (fn_X3_drops_16 K p0 n x2) J (F0 m 16 ls []) := by
  have hx := C.1
  have hb := C.2.1
  intro n
  induction n with
  | zero => intro x2 J ls hl hJ; exact rk_fl
  | succ n ih =>
    intro x2 J ls hl hJ
    unfold fn_X3_drops_16
    refine rk_of (fun _ _ _ _ _ k => lv_iload_n hx hb dX3_drops_16 rfl (lv_at hl 1 rfl) (lr_aload_n hx hb dX3_drops_17 rfl (lv_at hl 0 rfl) k)) ?_
    refine rk_get zm_rdR_eq C (hc_X3 H) (k := 0) (Nat.le_of_ble_eq_true rfl) in_X3 q2577 (fun _ h => h) dX3_drops_18 (fun v18 => ?_)
    refine rk_of (fun _ _ _ _ _ k => lv_iconst (v := 2) hx hb dX3_drops_21 rfl k) ?_
    refine rk_iald C dX3_drops_22 (fun v22 => ?_)
    refine rk_of (fun _ _ _ _ _ k => lv_iconst (v := 0) hx hb dX3_drops_23 rfl k) ?_
    refine rk_callI hX (cl_S (rest := [.int x2]) C (ct_X3_wishAt H v22 0) (lw_S q2795 q2796 q112 q2797) hd_X3_wishAt ⟨(Nat.le_of_ble_eq_true rfl), (Nat.le_of_ble_eq_true rfl)⟩ rfl hl.1 rfl (zw_le (zw_I zw_nil) (Nat.le_of_ble_eq_true rfl)) dX3_drops_24) (fun v24 => ?_)
    refine rk_ite (fun _ _ _ _ _ k1 k2 => lv_icmp_ge (tgt := 50) hx hb dX3_drops_27 (by decide) k1 k2) (fun c_27 => ?_) (fun c_27 => ?_)
    · exact hJ () ls (lv_sub hl [0] rfl)
    · refine rk_of (fun _ _ _ _ _ k => lr_aload_n hx hb dX3_drops_30 rfl (lv_at hl 0 rfl) k) ?_
      refine rk_get zm_rdR_eq C (hc_X3 H) (k := 0) (Nat.le_of_ble_eq_true rfl) in_X3 q2577 (fun _ h => h) dX3_drops_31 (fun v31 => ?_)
      refine rk_of (fun _ _ _ _ _ k => lv_iload_n hx hb dX3_drops_34 rfl (lv_at hl 1 rfl) (lr_aload_n hx hb dX3_drops_35 rfl (lv_at hl 0 rfl) k)) ?_
      refine rk_get zm_rdR_eq C (hc_X3 H) (k := 0) (Nat.le_of_ble_eq_true rfl) in_X3 q2577 (fun _ h => h) dX3_drops_36 (fun v36 => ?_)
      refine rk_of (fun _ _ _ _ _ k => lv_iload_n hx hb dX3_drops_39 rfl (lv_at hl 1 rfl) (lv_iconst (v := 3) hx hb dX3_drops_40 rfl (lv_iadd hx hb dX3_drops_41 k))) ?_
      refine rk_iald C dX3_drops_42 (fun v42 => ?_)
      refine rk_iast C H.2.2.1 dX3_drops_43 ?_
      refine rk_ofs (fun _ _ _ _ _ k => lr_iinc (v := x2 + 1) hx hb dX3_drops_44 hl (k := 1) rfl rfl (Nat.le_of_ble_eq_true rfl) [0] rfl ⟨trivial, trivial⟩ k) (fun ls hl => ?_)
      refine rk_of (fun _ _ _ _ _ k => lv_goto (tgt := 16) hx hb dX3_drops_47 (by decide) k) ?_
      exact ih (x2 + 1) J ls (lv_sub hl [1, 0] rfl) hJ
theorem rf_X3_drops_52 (H : zm_H Ω K) (C : zm_C p l R s m args meth c Ω lw_all cX3_drops yX3_drops.cls yX3_drops.name 3 2 85 (Option.some Jvm.ClassFile.FieldType.int)) (hX : zm_XO p l e R s m args below meth c Ω n0 k0 (zm_QFs below args s Ω n0 k0 zm_tvI)) (p0 : zm_R) : ∀ (n : Nat) (x2 : Int32) (J : (Unit) → zm_M Int32) (ls : Array Slot), lv_has ls 3 [(0, va_rf p0), (2, .int x2)] → (∀ (b : Unit) (ls : Array Slot), lv_has ls 3 [(0, va_rf p0)] → zm_RK p l e R s m args below meth c Ω n0 k0 (zm_QFs below args s Ω n0 k0 zm_tvI) (zm_ret b) J (F0 m 79 ls [])) → zm_RK p l e R s m args below meth c Ω n0 k0 (zm_QFs below args s Ω n0 k0 zm_tvI) (fn_X3_drops_52 K p0 n x2) J (F0 m 52 ls []) := by
  have hx := C.1
  have hb := C.2.1
  intro n
  induction n with
  | zero => intro x2 J ls hl hJ; exact rk_fl
  | succ n ih =>
    intro x2 J ls hl hJ
    unfold fn_X3_drops_52
    refine rk_ite (fun _ _ _ _ _ k1 k2 => lv_iload_n hx hb dX3_drops_52 rfl (lv_at hl 1 rfl) (lv_iconst (v := 3) hx hb dX3_drops_53 rfl (lv_icmp_ge (tgt := 79) hx hb dX3_drops_54 (by decide) k1 k2))) (fun c_54 => ?_) (fun c_54 => ?_)
    · exact hJ () ls (lv_sub hl [0] rfl)
    · refine rk_of (fun _ _ _ _ _ k => lr_aload_n hx hb dX3_drops_57 rfl (lv_at hl 0 rfl) k) ?_
      refine rk_get zm_rdR_eq C (hc_X3 H) (k := 0) (Nat.le_of_ble_eq_true rfl) in_X3 q2577 (fun _ h => h) dX3_drops_58 (fun v58 => ?_)
      refine rk_of (fun _ _ _ _ _ k => lr_aload_n hx hb dX3_drops_61 rfl (lv_at hl 0 rfl) k) ?_
      refine rk_get zm_rdR_eq C (hc_X3 H) (k := 0) (Nat.le_of_ble_eq_true rfl) in_X3 q2577 (fun _ h => h) dX3_drops_62 (fun v62 => ?_)
      refine rk_of (fun _ _ _ _ _ k => lv_iconst (v := 2) hx hb dX3_drops_65 rfl k) ?_
      refine rk_iald C dX3_drops_66 (fun v66 => ?_)
      refine rk_of (fun _ _ _ _ _ k => lv_iload_n hx hb dX3_drops_67 rfl (lv_at hl 1 rfl) k) ?_
      refine rk_callI hX (cl_S (rest := [va_rf v58]) C (ct_X3_wishAt H v66 x2) (lw_S q2795 q2796 q112 q2797) hd_X3_wishAt ⟨(Nat.le_of_ble_eq_true rfl), (Nat.le_of_ble_eq_true rfl)⟩ rfl hl.1 rfl (zw_le (zw_R zw_nil) (Nat.le_of_ble_eq_true rfl)) dX3_drops_68) (fun v68 => ?_)
      refine rk_of (fun _ _ _ _ _ k => lv_iconst (v := 0) hx hb dX3_drops_71 rfl k) ?_
      refine rk_iast C H.2.2.1 dX3_drops_72 ?_
      refine rk_ofs (fun _ _ _ _ _ k => lr_iinc (v := x2 + 1) hx hb dX3_drops_73 hl (k := 1) rfl rfl (Nat.le_of_ble_eq_true rfl) [0] rfl ⟨trivial, trivial⟩ k) (fun ls hl => ?_)
      refine rk_of (fun _ _ _ _ _ k => lv_goto (tgt := 52) hx hb dX3_drops_76 (by decide) k) ?_
      exact ih (x2 + 1) J ls (lv_sub hl [1, 0] rfl) hJ
theorem ct_X3_drops {l : Launch} {Ω : zm_W} {K : zm_K} (H : zm_H Ω K) (a0 : zm_R) (a1 : Int32) : zm_Ct l Ω yX3_drops (ws_ yX3_drops cX3_drops 3 (Option.some Jvm.ClassFile.FieldType.int)) 2 85 [va_rf a0, .int a1] zm_tvI (fn_X3_drops K a0 a1) := by
  refine zm_ct H.1 (by decide +kernel) (zl_le (zl_R (zl_I zl_nil)) (Nat.le_of_ble_eq_true rfl)) ?_
  intro p e R s m args below meth c n0 k0 C hX ls hl
  have hx := C.1
  have hb := C.2.1
  simp only [zg_I, zg_R, zg_nil] at hl
  have hl : lv_has ls 3 [(0, va_rf a0), (1, .int a1)] := hl
  refine rk_rf ?_
  unfold fn_X3_drops
  refine rk_of (fun _ _ _ _ _ k => lr_aload_n hx hb dX3_drops_0 rfl (lv_at hl 0 rfl) k) ?_
  refine rk_get zm_rdR_eq C (hc_X3 H) (k := 0) (Nat.le_of_ble_eq_true rfl) in_X3 q2577 (fun _ h => h) dX3_drops_1 (fun v1 => ?_)
  refine rk_of (fun _ _ _ _ _ k => lv_iconst (v := 2) hx hb dX3_drops_4 rfl (lv_dup2_11 hx hb dX3_drops_5 rfl (va_rf_cat _) k)) ?_
  refine rk_iald C dX3_drops_6 (fun v6 => ?_)
  refine rk_of (fun _ _ _ _ _ k => lv_iconst (v := 1) hx hb dX3_drops_7 rfl (lv_isub hx hb dX3_drops_8 k)) ?_
  refine rk_iast C H.2.2.1 dX3_drops_9 ?_
  refine rk_of (fun _ _ _ _ _ k => lv_iload_n hx hb dX3_drops_10 rfl (lv_at hl 1 rfl) (lv_iconst (v := 0) hx hb dX3_drops_11 rfl k)) ?_
  refine rk_callI hX (cl_S (rest := []) C (ct_X3_wishAt H a1 0) (lw_S q2795 q2796 q112 q2797) hd_X3_wishAt ⟨(Nat.le_of_ble_eq_true rfl), (Nat.le_of_ble_eq_true rfl)⟩ rfl hl.1 rfl (zw_le zw_nil (Nat.le_of_ble_eq_true rfl)) dX3_drops_12) (fun v12 => ?_)
  refine rk_ofs (fun _ _ _ _ _ k => lr_istore_n hx hb dX3_drops_15 rfl hl (Nat.le_of_ble_eq_true rfl) [0] rfl ⟨trivial, trivial⟩ k) (fun ls hl => ?_)
  refine rk_join (β := Unit) (fun (b50 : Unit) ls => lv_has ls 3 [(0, va_rf a0)]) (fun (b50 : Unit) ls => F0 m 50 ls []) (fun b50 ls hl => ?_) (fun hJ50 => ?_)
  · refine rk_ofs (fun _ _ _ _ _ k => lv_iconst (v := 0) hx hb dX3_drops_50 rfl (lr_istore_n hx hb dX3_drops_51 rfl hl (Nat.le_of_ble_eq_true rfl) [0] rfl ⟨trivial, trivial⟩ k)) (fun ls hl => ?_)
    refine rk_join (β := Unit) (fun (b79 : Unit) ls => lv_has ls 3 [(0, va_rf a0)]) (fun (b79 : Unit) ls => F0 m 79 ls []) (fun b79 ls hl => ?_) (fun hJ79 => ?_)
    · refine rk_of (fun _ _ _ _ _ k => lr_aload_n hx hb dX3_drops_79 rfl (lv_at hl 0 rfl) k) ?_
      refine rk_get zm_rdR_eq C (hc_X3 H) (k := 0) (Nat.le_of_ble_eq_true rfl) in_X3 q2577 (fun _ h => h) dX3_drops_80 (fun v80 => ?_)
      refine rk_of (fun _ _ _ _ _ k => lv_iconst (v := 2) hx hb dX3_drops_83 rfl k) ?_
      refine rk_iald C dX3_drops_84 (fun v84 => ?_)
      exact rk_top (rf_iret C rfl dX3_drops_85)
    · exact rf_X3_drops_52 H C hX a0 zm_N 0 _ ls (lv_sub hl [1, 0] rfl) hJ79
  · exact rf_X3_drops_16 H C hX a0 zm_N v12 _ ls (lv_sub hl [1, 0] rfl) hJ50
theorem hd_X3_allots : yX3_allots.cls ≠ "java/lang/invoke/MethodHandle" ∧ yX3_allots.cls ≠ "java/lang/invoke/VarHandle" ∧ (parseMethodDescriptor yX3_allots.desc).map (fun d => d.parameters.length) = some 0 := by decide +kernel
noncomputable def fn_X3_allots_39 (K : zm_K) (p0 : zm_R) : Nat → Int32 → Int32 → Int32 → Int32 → zm_M (Int32 × Int32)
  | 0, _, _, _, _ => zm_fl
  | n + 1, x1, x2, x3, x4 =>
    if x4 < 0 then
      zm_ret (x2, x3)
    else
      zm_bnd (zm_bnd (zm_is p0 20) fun _ => fn_X3_ofWish K p0 x4 2) fun v49 =>
      zm_bnd (zm_bnd (zm_is p0 20) fun _ => fn_X3_ofWish K p0 x4 0) fun v56 =>
      zm_bnd (zm_bnd (zm_is p0 20) fun _ => fn_X3_ofWish K p0 x4 1) fun v63 =>
      zm_bnd (zm_bnd (zm_is p0 20) fun _ => fn_X3_room K p0 v49 v56 v63) fun v66 =>
      zm_bnd (α := Int32 × Int32) (
          if v66 < 0 then
            zm_ret (x2, x3)
          else
            zm_bnd (zm_getR p0 20 0) fun v84 =>
            zm_bnd (zm_aldI .int v84 1) fun v88 =>
            if 30 ≤ v88 then
              zm_ret (x2, x3)
            else
              zm_bnd (zm_bnd (zm_is p0 20) fun _ => fn_X3_ofWish K p0 x4 2) fun v101 =>
              zm_bnd (zm_bnd (zm_is p0 20) fun _ => fn_X3_ofWish K p0 x4 0) fun v108 =>
              zm_bnd (zm_bnd (zm_is p0 20) fun _ => fn_X3_ofWish K p0 x4 1) fun v115 =>
              zm_bnd (zm_bnd (zm_is p0 20) fun _ => fn_X3_makes K p0 v66 v101 v108 v115) fun v118 =>
              zm_bnd (α := Int32) (
                  if v118 < 0 then
                    zm_ret 0
                  else
                    zm_ret (1 <<< (x4 &&& 31))
                ) fun b137 =>
              zm_ret (x2 ||| b137, x3 + 1)
        ) fun b142 =>
      zm_bnd (zm_bnd (zm_is p0 20) fun _ => fn_X3_nextWish K p0 (x1 ||| (1 <<< (x4 &&& 31)))) fun v144 =>
      fn_X3_allots_39 K p0 n (x1 ||| (1 <<< (x4 &&& 31))) b142.1 b142.2 v144
noncomputable def fn_X3_allots_159 (K : zm_K) (p0 : zm_R) (p2 : Int32) (p3 : Int32) : Nat → Int32 → Int32 → zm_M (Int32)
  | 0, _, _ => zm_fl
  | n + 1, x5, x6 =>
    if x6 < 0 then
      zm_ret x5
    else
      zm_bnd (α := Int32) (
          if ((p2 >>> (x6 &&& 31)) &&& 1) = 1 then
            zm_bnd (zm_bnd (zm_is p0 20) fun _ => fn_X3_drops K p0 x6) fun v179 =>
            zm_ret v179
          else
            zm_ret 0
        ) fun b186 =>
      fn_X3_allots_159 K p0 p2 p3 n (x5 + b186) (x6 + (-1))
noncomputable def fn_X3_allots (K : zm_K) (a0 : zm_R) : zm_M Int32 :=
  zm_bnd (zm_getR a0 20 0) fun v2 =>
  zm_bnd (zm_aldI .int v2 2) fun v6 =>
  zm_bnd (α := Int32) (
      if v6 = 0 then
        zm_ret 1
      else
        zm_ret 0
    ) fun b15 =>
  zm_bnd (zm_bnd (zm_is a0 20) fun _ => fn_X3_isRefused K a0 b15 9 0) fun v18 =>
  if v18 = 0 then
    zm_bnd (zm_bnd (zm_is a0 20) fun _ => fn_X3_nextWish K a0 0) fun v34 =>
    zm_bnd (α := Int32 × Int32) (fn_X3_allots_39 K a0 zm_N 0 0 0 v34) fun b152 =>
    zm_bnd (α := Int32) (fn_X3_allots_159 K a0 b152.1 b152.2 zm_N 0 11) fun b195 =>
    zm_bnd (zm_getR a0 20 0) fun v196 =>
    zm_bnd (zm_aldI .int v196 3) fun v201 =>
    zm_bnd (zm_astI K .int v196 3 (v201 + b152.2)) fun _ =>
    if 0 ≤ b195 then
      zm_ret b152.2
    else
      zm_ret b195
  else
    zm_ret 0
theorem rf_X3_allots_39 (H : zm_H Ω K) (C : zm_C p l R s m args meth c Ω lw_all cX3_allots yX3_allots.cls yX3_allots.name 7 6 179 (Option.some Jvm.ClassFile.FieldType.int)) (hX : zm_XO p l e R s m args below meth c Ω n0 k0 (zm_QFs below args s Ω n0 k0 zm_tvI)) (p0 : zm_R) : ∀ (n : Nat) (x1 : Int32) (x2 : Int32) (x3 : Int32) (x4 : Int32) (J : (Int32 × Int32) → zm_M Int32) (ls : Array Slot), lv_has ls 7 [(0, va_rf p0), (1, .int x1), (2, .int x2), (3, .int x3), (4, .int x4)] → (∀ (b : Int32 × Int32) (ls : Array Slot), lv_has ls 7 [(0, va_rf p0), (2, .int b.1), (3, .int b.2)] → zm_RK p l e R s m args below meth c Ω n0 k0 (zm_QFs below args s Ω n0 k0 zm_tvI) (zm_ret b) J (F0 m 152 ls [])) → zm_RK p l e R s m args below meth c Ω n0 k0 (zm_QFs below args s Ω n0 k0 zm_tvI) (fn_X3_allots_39 K p0 n x1 x2 x3 x4) J (F0 m 39 ls []) := by
  have hx := C.1
  have hb := C.2.1
  intro n
  induction n with
  | zero => intro x1 x2 x3 x4 J ls hl hJ; exact rk_fl
  | succ n ih =>
    intro x1 x2 x3 x4 J ls hl hJ
    unfold fn_X3_allots_39
    refine rk_ite (fun _ _ _ _ _ k1 k2 => lv_iload hx hb dX3_allots_39 (lv_at hl 4 rfl) (lv_if_lt (tgt := 152) hx hb dX3_allots_41 (by decide) k1 k2)) (fun c_41 => ?_) (fun c_41 => ?_)
    · exact hJ (x2, x3) ls (lv_sub hl [0, 2, 3] rfl)
    · refine rk_of (fun _ _ _ _ _ k => lr_aload_n hx hb dX3_allots_44 rfl (lv_at hl 0 rfl) (lr_aload_n hx hb dX3_allots_45 rfl (lv_at hl 0 rfl) (lv_iload hx hb dX3_allots_46 (lv_at hl 4 rfl) (lv_iconst (v := 2) hx hb dX3_allots_48 rfl k)))) ?_
      refine rk_callI hX (cl_V (rest := [va_rf p0]) (av := [.int x4, .int 2]) C (hc_X3 H) (ct_X3_ofWish H p0 x4 2) (lw_V q2814 q2816 qs68 q112 q2817) ⟨rfl, hd_X3_ofWish⟩ ⟨(Nat.le_of_ble_eq_true rfl), (Nat.le_of_ble_eq_true rfl)⟩ rfl hl.1 rfl (zw_le (zw_R zw_nil) (Nat.le_of_ble_eq_true rfl)) dX3_allots_49) (fun v49 => ?_)
      refine rk_of (fun _ _ _ _ _ k => lr_aload_n hx hb dX3_allots_52 rfl (lv_at hl 0 rfl) (lv_iload hx hb dX3_allots_53 (lv_at hl 4 rfl) (lv_iconst (v := 0) hx hb dX3_allots_55 rfl k))) ?_
      refine rk_callI hX (cl_V (rest := [.int v49, va_rf p0]) (av := [.int x4, .int 0]) C (hc_X3 H) (ct_X3_ofWish H p0 x4 0) (lw_V q2814 q2816 qs68 q112 q2817) ⟨rfl, hd_X3_ofWish⟩ ⟨(Nat.le_of_ble_eq_true rfl), (Nat.le_of_ble_eq_true rfl)⟩ rfl hl.1 rfl (zw_le (zw_I (zw_R zw_nil)) (Nat.le_of_ble_eq_true rfl)) dX3_allots_56) (fun v56 => ?_)
      refine rk_of (fun _ _ _ _ _ k => lr_aload_n hx hb dX3_allots_59 rfl (lv_at hl 0 rfl) (lv_iload hx hb dX3_allots_60 (lv_at hl 4 rfl) (lv_iconst (v := 1) hx hb dX3_allots_62 rfl k))) ?_
      refine rk_callI hX (cl_V (rest := [.int v56, .int v49, va_rf p0]) (av := [.int x4, .int 1]) C (hc_X3 H) (ct_X3_ofWish H p0 x4 1) (lw_V q2814 q2816 qs68 q112 q2817) ⟨rfl, hd_X3_ofWish⟩ ⟨(Nat.le_of_ble_eq_true rfl), (Nat.le_of_ble_eq_true rfl)⟩ rfl hl.1 rfl (zw_le (zw_I (zw_I (zw_R zw_nil))) (Nat.le_of_ble_eq_true rfl)) dX3_allots_63) (fun v63 => ?_)
      refine rk_callI hX (cl_V (rest := []) (av := [.int v49, .int v56, .int v63]) C (hc_X3 H) (ct_X3_room H p0 v49 v56 v63) (lw_V q2858 q2860 qs73 q112 q2861) ⟨rfl, hd_X3_room⟩ ⟨(Nat.le_of_ble_eq_true rfl), (Nat.le_of_ble_eq_true rfl)⟩ rfl hl.1 rfl (zw_le zw_nil (Nat.le_of_ble_eq_true rfl)) dX3_allots_66) (fun v66 => ?_)
      refine rk_ofs (fun _ _ _ _ _ k => lr_istore hx hb dX3_allots_69 hl (Nat.le_of_ble_eq_true rfl) [0, 1, 2, 3, 4] rfl ⟨trivial, ⟨trivial, ⟨trivial, ⟨trivial, ⟨rfl, trivial⟩⟩⟩⟩⟩ k) (fun ls hl => ?_)
      refine rk_ofs (fun _ _ _ _ _ k => lv_iload_n hx hb dX3_allots_71 rfl (lv_at hl 2 rfl) (lv_iconst (v := 1) hx hb dX3_allots_72 rfl (lv_iload hx hb dX3_allots_73 (lv_at hl 5 rfl) (lv_ishl hx hb dX3_allots_75 (lv_ior hx hb dX3_allots_76 (lr_istore_n hx hb dX3_allots_77 rfl hl (Nat.le_of_ble_eq_true rfl) [0, 1, 3, 4, 5] rfl ⟨trivial, ⟨va_rf_cat _, ⟨trivial, ⟨trivial, ⟨trivial, trivial⟩⟩⟩⟩⟩ k)))))) (fun ls hl => ?_)
      refine rk_of (fun _ _ _ _ _ k => lv_iload hx hb dX3_allots_78 (lv_at hl 1 rfl) k) ?_
      refine rk_join (β := Int32 × Int32) (fun (b142 : Int32 × Int32) ls => lv_has ls 7 [(0, va_rf p0), (1, .int (x1 ||| (1 <<< (x4 &&& 31)))), (2, .int b142.1), (3, .int b142.2)]) (fun (b142 : Int32 × Int32) ls => F0 m 142 ls []) (fun b142 ls hl => ?_) (fun hJ142 => ?_)
      · refine rk_of (fun _ _ _ _ _ k => lr_aload_n hx hb dX3_allots_142 rfl (lv_at hl 0 rfl) (lv_iload_n hx hb dX3_allots_143 rfl (lv_at hl 1 rfl) k)) ?_
        refine rk_callI hX (cl_V (rest := []) (av := [.int (x1 ||| (1 <<< (x4 &&& 31)))]) C (hc_X3 H) (ct_X3_nextWish H p0 (x1 ||| (1 <<< (x4 &&& 31)))) (lw_V q2850 q2852 qs71 q112 q2853) ⟨rfl, hd_X3_nextWish⟩ ⟨(Nat.le_of_ble_eq_true rfl), (Nat.le_of_ble_eq_true rfl)⟩ rfl hl.1 rfl (zw_le zw_nil (Nat.le_of_ble_eq_true rfl)) dX3_allots_144) (fun v144 => ?_)
        refine rk_ofs (fun _ _ _ _ _ k => lr_istore hx hb dX3_allots_147 hl (Nat.le_of_ble_eq_true rfl) [0, 1, 2, 3] rfl ⟨trivial, ⟨trivial, ⟨trivial, ⟨rfl, trivial⟩⟩⟩⟩ k) (fun ls hl => ?_)
        refine rk_of (fun _ _ _ _ _ k => lv_goto (tgt := 39) hx hb dX3_allots_149 (by decide) k) ?_
        exact ih (x1 ||| (1 <<< (x4 &&& 31))) b142.1 b142.2 v144 J ls (lv_sub hl [1, 2, 3, 4, 0] rfl) hJ
      · refine rk_ite (fun _ _ _ _ _ k1 k2 => lv_if_lt (tgt := 142) hx hb dX3_allots_80 (by decide) k1 k2) (fun c_80 => ?_) (fun c_80 => ?_)
        · exact hJ142 (x2, x3) ls (lv_sub hl [2, 0, 3, 4] rfl)
        · refine rk_of (fun _ _ _ _ _ k => lr_aload_n hx hb dX3_allots_83 rfl (lv_at hl 2 rfl) k) ?_
          refine rk_get zm_rdR_eq C (hc_X3 H) (k := 0) (Nat.le_of_ble_eq_true rfl) in_X3 q2577 (fun _ h => h) dX3_allots_84 (fun v84 => ?_)
          refine rk_of (fun _ _ _ _ _ k => lv_iconst (v := 1) hx hb dX3_allots_87 rfl k) ?_
          refine rk_iald C dX3_allots_88 (fun v88 => ?_)
          refine rk_ite (fun _ _ _ _ _ k1 k2 => lv_bipush (v := 30) hx hb dX3_allots_89 rfl (lv_icmp_ge (tgt := 142) hx hb dX3_allots_91 (by decide) k1 k2)) (fun c_91 => ?_) (fun c_91 => ?_)
          · exact hJ142 (x2, x3) ls (lv_sub hl [2, 0, 3, 4] rfl)
          · refine rk_of (fun _ _ _ _ _ k => lr_aload_n hx hb dX3_allots_94 rfl (lv_at hl 2 rfl) (lv_iload hx hb dX3_allots_95 (lv_at hl 1 rfl) (lr_aload_n hx hb dX3_allots_97 rfl (lv_at hl 2 rfl) (lv_iload hx hb dX3_allots_98 (lv_at hl 5 rfl) (lv_iconst (v := 2) hx hb dX3_allots_100 rfl k))))) ?_
            refine rk_callI hX (cl_V (rest := [.int v66, va_rf p0]) (av := [.int x4, .int 2]) C (hc_X3 H) (ct_X3_ofWish H p0 x4 2) (lw_V q2814 q2816 qs68 q112 q2817) ⟨rfl, hd_X3_ofWish⟩ ⟨(Nat.le_of_ble_eq_true rfl), (Nat.le_of_ble_eq_true rfl)⟩ rfl hl.1 rfl (zw_le (zw_I (zw_R zw_nil)) (Nat.le_of_ble_eq_true rfl)) dX3_allots_101) (fun v101 => ?_)
            refine rk_of (fun _ _ _ _ _ k => lr_aload_n hx hb dX3_allots_104 rfl (lv_at hl 2 rfl) (lv_iload hx hb dX3_allots_105 (lv_at hl 5 rfl) (lv_iconst (v := 0) hx hb dX3_allots_107 rfl k))) ?_
            refine rk_callI hX (cl_V (rest := [.int v101, .int v66, va_rf p0]) (av := [.int x4, .int 0]) C (hc_X3 H) (ct_X3_ofWish H p0 x4 0) (lw_V q2814 q2816 qs68 q112 q2817) ⟨rfl, hd_X3_ofWish⟩ ⟨(Nat.le_of_ble_eq_true rfl), (Nat.le_of_ble_eq_true rfl)⟩ rfl hl.1 rfl (zw_le (zw_I (zw_I (zw_R zw_nil))) (Nat.le_of_ble_eq_true rfl)) dX3_allots_108) (fun v108 => ?_)
            refine rk_of (fun _ _ _ _ _ k => lr_aload_n hx hb dX3_allots_111 rfl (lv_at hl 2 rfl) (lv_iload hx hb dX3_allots_112 (lv_at hl 5 rfl) (lv_iconst (v := 1) hx hb dX3_allots_114 rfl k))) ?_
            refine rk_callI hX (cl_V (rest := [.int v108, .int v101, .int v66, va_rf p0]) (av := [.int x4, .int 1]) C (hc_X3 H) (ct_X3_ofWish H p0 x4 1) (lw_V q2814 q2816 qs68 q112 q2817) ⟨rfl, hd_X3_ofWish⟩ ⟨(Nat.le_of_ble_eq_true rfl), (Nat.le_of_ble_eq_true rfl)⟩ rfl hl.1 rfl (zw_le (zw_I (zw_I (zw_I (zw_R zw_nil)))) (Nat.le_of_ble_eq_true rfl)) dX3_allots_115) (fun v115 => ?_)
            refine rk_callI hX (cl_V (rest := []) (av := [.int v66, .int v101, .int v108, .int v115]) C (hc_X3 H) (ct_X3_makes H p0 v66 v101 v108 v115) (lw_V q2714 q2716 qs55 q112 q2717) ⟨rfl, hd_X3_makes⟩ ⟨(Nat.le_of_ble_eq_true rfl), (Nat.le_of_ble_eq_true rfl)⟩ rfl hl.1 rfl (zw_le zw_nil (Nat.le_of_ble_eq_true rfl)) dX3_allots_118) (fun v118 => ?_)
            refine rk_ofs (fun _ _ _ _ _ k => lr_istore hx hb dX3_allots_121 hl (Nat.le_of_ble_eq_true rfl) [0, 2, 3, 4, 5] rfl ⟨trivial, ⟨trivial, ⟨trivial, ⟨trivial, ⟨trivial, trivial⟩⟩⟩⟩⟩ k) (fun ls hl => ?_)
            refine rk_of (fun _ _ _ _ _ k => lv_iload_n hx hb dX3_allots_123 rfl (lv_at hl 3 rfl) (lv_iload hx hb dX3_allots_124 (lv_at hl 0 rfl) k)) ?_
            refine rk_join (β := Int32) (fun (b137 : Int32) ls => lv_has ls 7 [(0, va_rf p0), (1, .int (x1 ||| (1 <<< (x4 &&& 31)))), (3, .int x3)]) (fun (b137 : Int32) ls => F0 m 137 ls [.int b137, .int x2]) (fun b137 ls hl => ?_) (fun hJ137 => ?_)
            · refine rk_ofs (fun _ _ _ _ _ k => lv_ior hx hb dX3_allots_137 (lr_istore_n hx hb dX3_allots_138 rfl hl (Nat.le_of_ble_eq_true rfl) [0, 1, 2] rfl ⟨trivial, ⟨rfl, ⟨trivial, trivial⟩⟩⟩ k)) (fun ls hl => ?_)
              refine rk_ofs (fun _ _ _ _ _ k => lr_iinc (v := x3 + 1) hx hb dX3_allots_139 hl (k := 3) rfl rfl (Nat.le_of_ble_eq_true rfl) [0, 1, 2] rfl ⟨rfl, ⟨trivial, ⟨trivial, trivial⟩⟩⟩ k) (fun ls hl => ?_)
              exact hJ142 (x2 ||| b137, x3 + 1) ls (lv_sub hl [2, 3, 1, 0] rfl)
            · refine rk_ite (fun _ _ _ _ _ k1 k2 => lv_if_lt (tgt := 136) hx hb dX3_allots_126 (by decide) k1 k2) (fun c_126 => ?_) (fun c_126 => ?_)
              · refine rk_of (fun _ _ _ _ _ k => lv_iconst (v := 0) hx hb dX3_allots_136 rfl k) ?_
                exact hJ137 0 ls (lv_sub hl [2, 1, 4] rfl)
              · refine rk_of (fun _ _ _ _ _ k => lv_iconst (v := 1) hx hb dX3_allots_129 rfl (lv_iload hx hb dX3_allots_130 (lv_at hl 5 rfl) (lv_ishl hx hb dX3_allots_132 (lv_goto (tgt := 137) hx hb dX3_allots_133 (by decide) k)))) ?_
                exact hJ137 (1 <<< (x4 &&& 31)) ls (lv_sub hl [2, 1, 4] rfl)
theorem rf_X3_allots_159 (H : zm_H Ω K) (C : zm_C p l R s m args meth c Ω lw_all cX3_allots yX3_allots.cls yX3_allots.name 7 6 179 (Option.some Jvm.ClassFile.FieldType.int)) (hX : zm_XO p l e R s m args below meth c Ω n0 k0 (zm_QFs below args s Ω n0 k0 zm_tvI)) (p0 : zm_R) (p2 : Int32) (p3 : Int32) : ∀ (n : Nat) (x5 : Int32) (x6 : Int32) (J : (Int32) → zm_M Int32) (ls : Array Slot), lv_has ls 7 [(0, va_rf p0), (2, .int p2), (3, .int p3), (5, .int x5), (6, .int x6)] → (∀ (b : Int32) (ls : Array Slot), lv_has ls 7 [(0, va_rf p0), (3, .int p3), (5, .int b)] → zm_RK p l e R s m args below meth c Ω n0 k0 (zm_QFs below args s Ω n0 k0 zm_tvI) (zm_ret b) J (F0 m 195 ls [])) → zm_RK p l e R s m args below meth c Ω n0 k0 (zm_QFs below args s Ω n0 k0 zm_tvI) (fn_X3_allots_159 K p0 p2 p3 n x5 x6) J (F0 m 159 ls []) := by
  have hx := C.1
  have hb := C.2.1
  intro n
  induction n with
  | zero => intro x5 x6 J ls hl hJ; exact rk_fl
  | succ n ih =>
    intro x5 x6 J ls hl hJ
    unfold fn_X3_allots_159
    refine rk_ite (fun _ _ _ _ _ k1 k2 => lv_iload hx hb dX3_allots_159 (lv_at hl 4 rfl) (lv_if_lt (tgt := 195) hx hb dX3_allots_161 (by decide) k1 k2)) (fun c_161 => ?_) (fun c_161 => ?_)
    · exact hJ x5 ls (lv_sub hl [0, 2, 3] rfl)
    · refine rk_of (fun _ _ _ _ _ k => lv_iload hx hb dX3_allots_164 (lv_at hl 3 rfl) (lv_iload_n hx hb dX3_allots_166 rfl (lv_at hl 1 rfl) (lv_iload hx hb dX3_allots_167 (lv_at hl 4 rfl) (lv_ishr hx hb dX3_allots_169 (lv_iconst (v := 1) hx hb dX3_allots_170 rfl (lv_iand hx hb dX3_allots_171 (lv_iconst (v := 1) hx hb dX3_allots_172 rfl k))))))) ?_
      refine rk_join (β := Int32) (fun (b186 : Int32) ls => lv_has ls 7 [(0, va_rf p0), (2, .int p2), (3, .int p3), (6, .int x6)]) (fun (b186 : Int32) ls => F0 m 186 ls [.int b186, .int x5]) (fun b186 ls hl => ?_) (fun hJ186 => ?_)
      · refine rk_ofs (fun _ _ _ _ _ k => lv_iadd hx hb dX3_allots_186 (lr_istore hx hb dX3_allots_187 hl (Nat.le_of_ble_eq_true rfl) [0, 1, 2, 3] rfl ⟨trivial, ⟨trivial, ⟨trivial, ⟨trivial, trivial⟩⟩⟩⟩ k)) (fun ls hl => ?_)
        refine rk_ofs (fun _ _ _ _ _ k => lr_iinc (v := x6 + (-1)) hx hb dX3_allots_189 hl (k := 4) rfl rfl (Nat.le_of_ble_eq_true rfl) [0, 1, 2, 3] rfl ⟨rfl, ⟨trivial, ⟨trivial, ⟨trivial, trivial⟩⟩⟩⟩ k) (fun ls hl => ?_)
        refine rk_of (fun _ _ _ _ _ k => lv_goto (tgt := 159) hx hb dX3_allots_192 (by decide) k) ?_
        exact ih (x5 + b186) (x6 + (-1)) J ls (lv_sub hl [2, 3, 4, 1, 0] rfl) hJ
      · refine rk_ite (fun _ _ _ _ _ k1 k2 => lv_icmp_ne (tgt := 185) hx hb dX3_allots_173 (by decide) k2 k1) (fun c_173 => ?_) (fun c_173 => ?_)
        · refine rk_of (fun _ _ _ _ _ k => lr_aload_n hx hb dX3_allots_176 rfl (lv_at hl 0 rfl) (lv_iload hx hb dX3_allots_177 (lv_at hl 4 rfl) k)) ?_
          refine rk_callI hX (cl_V (rest := [.int x5]) (av := [.int x6]) C (hc_X3 H) (ct_X3_drops H p0 x6) (lw_V q2806 q2808 qs67 q112 q2809) ⟨rfl, hd_X3_drops⟩ ⟨(Nat.le_of_ble_eq_true rfl), (Nat.le_of_ble_eq_true rfl)⟩ rfl hl.1 rfl (zw_le (zw_I zw_nil) (Nat.le_of_ble_eq_true rfl)) dX3_allots_179) (fun v179 => ?_)
          refine rk_of (fun _ _ _ _ _ k => lv_goto (tgt := 186) hx hb dX3_allots_182 (by decide) k) ?_
          exact hJ186 v179 ls (lv_sub hl [0, 1, 2, 4] rfl)
        · refine rk_of (fun _ _ _ _ _ k => lv_iconst (v := 0) hx hb dX3_allots_185 rfl k) ?_
          exact hJ186 0 ls (lv_sub hl [0, 1, 2, 4] rfl)
theorem ct_X3_allots {l : Launch} {Ω : zm_W} {K : zm_K} (H : zm_H Ω K) (a0 : zm_R) : zm_Ct l Ω yX3_allots (ws_ yX3_allots cX3_allots 7 (Option.some Jvm.ClassFile.FieldType.int)) 6 179 [va_rf a0] zm_tvI (fn_X3_allots K a0) := by
  refine zm_ct H.1 (by decide +kernel) (zl_le (zl_R zl_nil) (Nat.le_of_ble_eq_true rfl)) ?_
  intro p e R s m args below meth c n0 k0 C hX ls hl
  have hx := C.1
  have hb := C.2.1
  simp only [zg_R, zg_nil] at hl
  have hl : lv_has ls 7 [(0, va_rf a0)] := hl
  refine rk_rf ?_
  unfold fn_X3_allots
  refine rk_of (fun _ _ _ _ _ k => lr_aload_n hx hb dX3_allots_0 rfl (lv_at hl 0 rfl) (lr_aload_n hx hb dX3_allots_1 rfl (lv_at hl 0 rfl) k)) ?_
  refine rk_get zm_rdR_eq C (hc_X3 H) (k := 0) (Nat.le_of_ble_eq_true rfl) in_X3 q2577 (fun _ h => h) dX3_allots_2 (fun v2 => ?_)
  refine rk_of (fun _ _ _ _ _ k => lv_iconst (v := 2) hx hb dX3_allots_5 rfl k) ?_
  refine rk_iald C dX3_allots_6 (fun v6 => ?_)
  refine rk_join (β := Int32) (fun (b15 : Int32) ls => lv_has ls 7 [(0, va_rf a0)]) (fun (b15 : Int32) ls => F0 m 15 ls [.int b15, va_rf a0]) (fun b15 ls hl => ?_) (fun hJ15 => ?_)
  · refine rk_of (fun _ _ _ _ _ k => lv_bipush (v := 9) hx hb dX3_allots_15 rfl (lv_iconst (v := 0) hx hb dX3_allots_17 rfl k)) ?_
    refine rk_callI hX (cl_V (rest := []) (av := [.int b15, .int 9, .int 0]) C (hc_X3 H) (ct_X3_isRefused H a0 b15 9 0) (lw_V q2669 q2671 qs47 q112 q2672) ⟨rfl, hd_X3_isRefused⟩ ⟨(Nat.le_of_ble_eq_true rfl), (Nat.le_of_ble_eq_true rfl)⟩ rfl hl.1 rfl (zw_le zw_nil (Nat.le_of_ble_eq_true rfl)) dX3_allots_18) (fun v18 => ?_)
    refine rk_ite (fun _ _ _ _ _ k1 k2 => lv_if_eq (tgt := 26) hx hb dX3_allots_21 (by decide) k1 k2) (fun c_21 => ?_) (fun c_21 => ?_)
    · refine rk_ofs (fun _ _ _ _ _ k => lv_iconst (v := 0) hx hb dX3_allots_26 rfl (lr_istore_n hx hb dX3_allots_27 rfl hl (Nat.le_of_ble_eq_true rfl) [0] rfl ⟨va_rf_cat _, trivial⟩ k)) (fun ls hl => ?_)
      refine rk_ofs (fun _ _ _ _ _ k => lv_iconst (v := 0) hx hb dX3_allots_28 rfl (lr_istore_n hx hb dX3_allots_29 rfl hl (Nat.le_of_ble_eq_true rfl) [0, 1] rfl ⟨rfl, ⟨trivial, trivial⟩⟩ k)) (fun ls hl => ?_)
      refine rk_ofs (fun _ _ _ _ _ k => lv_iconst (v := 0) hx hb dX3_allots_30 rfl (lr_istore_n hx hb dX3_allots_31 rfl hl (Nat.le_of_ble_eq_true rfl) [0, 1, 2] rfl ⟨rfl, ⟨trivial, ⟨trivial, trivial⟩⟩⟩ k)) (fun ls hl => ?_)
      refine rk_of (fun _ _ _ _ _ k => lr_aload_n hx hb dX3_allots_32 rfl (lv_at hl 3 rfl) (lv_iconst (v := 0) hx hb dX3_allots_33 rfl k)) ?_
      refine rk_callI hX (cl_V (rest := []) (av := [.int 0]) C (hc_X3 H) (ct_X3_nextWish H a0 0) (lw_V q2850 q2852 qs71 q112 q2853) ⟨rfl, hd_X3_nextWish⟩ ⟨(Nat.le_of_ble_eq_true rfl), (Nat.le_of_ble_eq_true rfl)⟩ rfl hl.1 rfl (zw_le zw_nil (Nat.le_of_ble_eq_true rfl)) dX3_allots_34) (fun v34 => ?_)
      refine rk_ofs (fun _ _ _ _ _ k => lr_istore hx hb dX3_allots_37 hl (Nat.le_of_ble_eq_true rfl) [0, 1, 2, 3] rfl ⟨rfl, ⟨trivial, ⟨trivial, ⟨trivial, trivial⟩⟩⟩⟩ k) (fun ls hl => ?_)
      refine rk_join (β := Int32 × Int32) (fun (b152 : Int32 × Int32) ls => lv_has ls 7 [(0, va_rf a0), (2, .int b152.1), (3, .int b152.2)]) (fun (b152 : Int32 × Int32) ls => F0 m 152 ls []) (fun b152 ls hl => ?_) (fun hJ152 => ?_)
      · refine rk_ofs (fun _ _ _ _ _ k => lv_iconst (v := 0) hx hb dX3_allots_152 rfl (lr_istore hx hb dX3_allots_153 hl (Nat.le_of_ble_eq_true rfl) [0, 1, 2] rfl ⟨trivial, ⟨trivial, ⟨trivial, trivial⟩⟩⟩ k)) (fun ls hl => ?_)
        refine rk_ofs (fun _ _ _ _ _ k => lv_bipush (v := 11) hx hb dX3_allots_155 rfl (lr_istore hx hb dX3_allots_157 hl (Nat.le_of_ble_eq_true rfl) [0, 1, 2, 3] rfl ⟨rfl, ⟨trivial, ⟨trivial, ⟨trivial, trivial⟩⟩⟩⟩ k)) (fun ls hl => ?_)
        refine rk_join (β := Int32) (fun (b195 : Int32) ls => lv_has ls 7 [(0, va_rf a0), (3, .int b152.2), (5, .int b195)]) (fun (b195 : Int32) ls => F0 m 195 ls []) (fun b195 ls hl => ?_) (fun hJ195 => ?_)
        · refine rk_of (fun _ _ _ _ _ k => lr_aload_n hx hb dX3_allots_195 rfl (lv_at hl 0 rfl) k) ?_
          refine rk_get zm_rdR_eq C (hc_X3 H) (k := 0) (Nat.le_of_ble_eq_true rfl) in_X3 q2577 (fun _ h => h) dX3_allots_196 (fun v196 => ?_)
          refine rk_of (fun _ _ _ _ _ k => lv_iconst (v := 3) hx hb dX3_allots_199 rfl (lv_dup2_11 hx hb dX3_allots_200 rfl (va_rf_cat _) k)) ?_
          refine rk_iald C dX3_allots_201 (fun v201 => ?_)
          refine rk_of (fun _ _ _ _ _ k => lv_iload_n hx hb dX3_allots_202 rfl (lv_at hl 1 rfl) (lv_iadd hx hb dX3_allots_203 k)) ?_
          refine rk_iast C H.2.2.1 dX3_allots_204 ?_
          refine rk_ite (fun _ _ _ _ _ k1 k2 => lv_iload hx hb dX3_allots_205 (lv_at hl 2 rfl) (lv_if_ge (tgt := 215) hx hb dX3_allots_207 (by decide) k1 k2)) (fun c_207 => ?_) (fun c_207 => ?_)
          · refine rk_of (fun _ _ _ _ _ k => lv_iload_n hx hb dX3_allots_215 rfl (lv_at hl 1 rfl) k) ?_
            exact rk_top (rf_iret C rfl dX3_allots_216)
          · refine rk_of (fun _ _ _ _ _ k => lv_iload hx hb dX3_allots_210 (lv_at hl 2 rfl) (lv_goto (tgt := 216) hx hb dX3_allots_212 (by decide) k)) ?_
            exact rk_top (rf_iret C rfl dX3_allots_216)
        · exact rf_X3_allots_159 H C hX a0 b152.1 b152.2 zm_N 0 11 _ ls (lv_sub hl [2, 3, 4, 1, 0] rfl) hJ195
      · exact rf_X3_allots_39 H C hX a0 zm_N 0 0 0 v34 _ ls (lv_sub hl [4, 3, 2, 1, 0] rfl) hJ152
    · refine rk_of (fun _ _ _ _ _ k => lv_iconst (v := 0) hx hb dX3_allots_24 rfl k) ?_
      exact rk_top (rf_iret C rfl dX3_allots_25)
  · refine rk_ite (fun _ _ _ _ _ k1 k2 => lv_if_ne (tgt := 14) hx hb dX3_allots_7 (by decide) k2 k1) (fun c_7 => ?_) (fun c_7 => ?_)
    · refine rk_of (fun _ _ _ _ _ k => lv_iconst (v := 1) hx hb dX3_allots_10 rfl (lv_goto (tgt := 15) hx hb dX3_allots_11 (by decide) k)) ?_
      exact hJ15 1 ls (lv_sub hl [0] rfl)
    · refine rk_of (fun _ _ _ _ _ k => lv_iconst (v := 0) hx hb dX3_allots_14 rfl k) ?_
      exact hJ15 0 ls (lv_sub hl [0] rfl)
theorem hd_X3_changed : yX3_changed.cls ≠ "java/lang/invoke/MethodHandle" ∧ yX3_changed.cls ≠ "java/lang/invoke/VarHandle" ∧ (parseMethodDescriptor yX3_changed.desc).map (fun d => d.parameters.length) = some 0 := by decide +kernel
noncomputable def fn_X3_changed_11 (K : zm_K) (p0 : zm_R) : Nat → Int32 → zm_M (Unit)
  | 0, _ => zm_fl
  | n + 1, x1 =>
    if 8 ≤ x1 then
      zm_ret ()
    else
      zm_bnd (zm_getR p0 20 3) fun v18 =>
      zm_bnd (zm_getR p0 20 3) fun v27 =>
      zm_bnd (fn_X3_copies K v18 (197 * x1) v27 (197 * (x1 - 1))) fun _ =>
      fn_X3_changed_11 K p0 n (x1 + 1)
noncomputable def fn_X3_changed (K : zm_K) (a0 : zm_R) : zm_M Unit :=
  zm_bnd (zm_getI a0 20 4) fun v1 =>
  zm_bnd (α := Unit) (
      if v1 = 8 then
        zm_bnd (α := Unit) (fn_X3_changed_11 K a0 zm_N 1) fun (_ : Unit) =>
        zm_bnd (zm_getI a0 20 4) fun v48 =>
        zm_bnd (zm_putF K a0 20 4 (.int (v48 - 1))) fun _ =>
        zm_ret ()
      else
        zm_ret ()
    ) fun (_ : Unit) =>
  zm_bnd (zm_getR a0 20 1) fun v57 =>
  zm_bnd (zm_getR a0 20 3) fun v62 =>
  zm_bnd (zm_getI a0 20 4) fun v69 =>
  zm_bnd (fn_X3_copies K v57 0 v62 (197 * v69)) fun _ =>
  zm_bnd (zm_getI a0 20 4) fun v78 =>
  zm_bnd (zm_putF K a0 20 4 (.int (v78 + 1))) fun _ =>
  zm_ret ()
theorem rf_X3_changed_11 (H : zm_H Ω K) (C : zm_C p l R s m args meth c Ω lw_all cX3_changed yX3_changed.cls yX3_changed.name 2 2 88 (Option.none : Option Jvm.ClassFile.FieldType)) (hX : zm_XO p l e R s m args below meth c Ω n0 k0 (zm_QFs below args s Ω n0 k0 zm_tvV)) (p0 : zm_R) : ∀ (n : Nat) (x1 : Int32) (J : (Unit) → zm_M Unit) (ls : Array Slot), lv_has ls 2 [(0, va_rf p0), (1, .int x1)] → (∀ (b : Unit) (ls : Array Slot), lv_has ls 2 [(0, va_rf p0)] → zm_RK p l e R s m args below meth c Ω n0 k0 (zm_QFs below args s Ω n0 k0 zm_tvV) (zm_ret b) J (F0 m 46 ls [])) → zm_RK p l e R s m args below meth c Ω n0 k0 (zm_QFs below args s Ω n0 k0 zm_tvV) (fn_X3_changed_11 K p0 n x1) J (F0 m 11 ls []) := by
  have hx := C.1
  have hb := C.2.1
  intro n
  induction n with
  | zero => intro x1 J ls hl hJ; exact rk_fl
  | succ n ih =>
    intro x1 J ls hl hJ
    unfold fn_X3_changed_11
    refine rk_ite (fun _ _ _ _ _ k1 k2 => lv_iload_n hx hb dX3_changed_11 rfl (lv_at hl 1 rfl) (lv_bipush (v := 8) hx hb dX3_changed_12 rfl (lv_icmp_ge (tgt := 46) hx hb dX3_changed_14 (by decide) k1 k2))) (fun c_14 => ?_) (fun c_14 => ?_)
    · exact hJ () ls (lv_sub hl [0] rfl)
    · refine rk_of (fun _ _ _ _ _ k => lr_aload_n hx hb dX3_changed_17 rfl (lv_at hl 0 rfl) k) ?_
      refine rk_get zm_rdR_eq C (hc_X3 H) (k := 3) (Nat.le_of_ble_eq_true rfl) in_X3 q2580 (fun _ h => h) dX3_changed_18 (fun v18 => ?_)
      refine rk_of (fun _ _ _ _ _ k => lv_sipush (v := 197) hx hb dX3_changed_21 rfl (lv_iload_n hx hb dX3_changed_24 rfl (lv_at hl 1 rfl) (lv_imul hx hb dX3_changed_25 (lr_aload_n hx hb dX3_changed_26 rfl (lv_at hl 0 rfl) k)))) ?_
      refine rk_get zm_rdR_eq C (hc_X3 H) (k := 3) (Nat.le_of_ble_eq_true rfl) in_X3 q2580 (fun _ h => h) dX3_changed_27 (fun v27 => ?_)
      refine rk_of (fun _ _ _ _ _ k => lv_sipush (v := 197) hx hb dX3_changed_30 rfl (lv_iload_n hx hb dX3_changed_33 rfl (lv_at hl 1 rfl) (lv_iconst (v := 1) hx hb dX3_changed_34 rfl (lv_isub hx hb dX3_changed_35 (lv_imul hx hb dX3_changed_36 k))))) ?_
      refine rk_callV hX (cl_S (rest := []) C (ct_X3_copies H v18 (197 * x1) v27 (197 * (x1 - 1))) (lw_S q2659 q2660 q112 q2661) hd_X3_copies ⟨(Nat.le_of_ble_eq_true rfl), (Nat.le_of_ble_eq_true rfl)⟩ rfl hl.1 rfl (zw_le zw_nil (Nat.le_of_ble_eq_true rfl)) dX3_changed_37) (fun _ => ?_)
      refine rk_ofs (fun _ _ _ _ _ k => lr_iinc (v := x1 + 1) hx hb dX3_changed_40 hl (k := 1) rfl rfl (Nat.le_of_ble_eq_true rfl) [0] rfl ⟨va_rf_cat _, trivial⟩ k) (fun ls hl => ?_)
      refine rk_of (fun _ _ _ _ _ k => lv_goto (tgt := 11) hx hb dX3_changed_43 (by decide) k) ?_
      exact ih (x1 + 1) J ls (lv_sub hl [1, 0] rfl) hJ
theorem ct_X3_changed {l : Launch} {Ω : zm_W} {K : zm_K} (H : zm_H Ω K) (a0 : zm_R) : zm_Ct l Ω yX3_changed (ws_ yX3_changed cX3_changed 2 (Option.none : Option Jvm.ClassFile.FieldType)) 2 88 [va_rf a0] zm_tvV (fn_X3_changed K a0) := by
  refine zm_ct H.1 (by decide +kernel) (zl_le (zl_R zl_nil) (Nat.le_of_ble_eq_true rfl)) ?_
  intro p e R s m args below meth c n0 k0 C hX ls hl
  have hx := C.1
  have hb := C.2.1
  simp only [zg_R, zg_nil] at hl
  have hl : lv_has ls 2 [(0, va_rf a0)] := hl
  refine rk_rf ?_
  unfold fn_X3_changed
  refine rk_of (fun _ _ _ _ _ k => lr_aload_n hx hb dX3_changed_0 rfl (lv_at hl 0 rfl) k) ?_
  refine rk_get zm_rdI_eq C (hc_X3 H) (k := 4) (Nat.le_of_ble_eq_true rfl) in_X3 q2581 (fun _ h => h) dX3_changed_1 (fun v1 => ?_)
  refine rk_of (fun _ _ _ _ _ k => lv_bipush (v := 8) hx hb dX3_changed_4 rfl k) ?_
  refine rk_join (β := Unit) (fun (b56 : Unit) ls => lv_has ls 2 [(0, va_rf a0)]) (fun (b56 : Unit) ls => F0 m 56 ls []) (fun b56 ls hl => ?_) (fun hJ56 => ?_)
  · refine rk_of (fun _ _ _ _ _ k => lr_aload_n hx hb dX3_changed_56 rfl (lv_at hl 0 rfl) k) ?_
    refine rk_get zm_rdR_eq C (hc_X3 H) (k := 1) (Nat.le_of_ble_eq_true rfl) in_X3 q2578 (fun _ h => h) dX3_changed_57 (fun v57 => ?_)
    refine rk_of (fun _ _ _ _ _ k => lv_iconst (v := 0) hx hb dX3_changed_60 rfl (lr_aload_n hx hb dX3_changed_61 rfl (lv_at hl 0 rfl) k)) ?_
    refine rk_get zm_rdR_eq C (hc_X3 H) (k := 3) (Nat.le_of_ble_eq_true rfl) in_X3 q2580 (fun _ h => h) dX3_changed_62 (fun v62 => ?_)
    refine rk_of (fun _ _ _ _ _ k => lv_sipush (v := 197) hx hb dX3_changed_65 rfl (lr_aload_n hx hb dX3_changed_68 rfl (lv_at hl 0 rfl) k)) ?_
    refine rk_get zm_rdI_eq C (hc_X3 H) (k := 4) (Nat.le_of_ble_eq_true rfl) in_X3 q2581 (fun _ h => h) dX3_changed_69 (fun v69 => ?_)
    refine rk_of (fun _ _ _ _ _ k => lv_imul hx hb dX3_changed_72 k) ?_
    refine rk_callV hX (cl_S (rest := []) C (ct_X3_copies H v57 0 v62 (197 * v69)) (lw_S q2659 q2660 q112 q2661) hd_X3_copies ⟨(Nat.le_of_ble_eq_true rfl), (Nat.le_of_ble_eq_true rfl)⟩ rfl hl.1 rfl (zw_le zw_nil (Nat.le_of_ble_eq_true rfl)) dX3_changed_73) (fun _ => ?_)
    refine rk_of (fun _ _ _ _ _ k => lr_aload_n hx hb dX3_changed_76 rfl (lv_at hl 0 rfl) (lv_dup hx hb dX3_changed_77 (va_rf_cat _) k)) ?_
    refine rk_get zm_rdI_eq C (hc_X3 H) (k := 4) (Nat.le_of_ble_eq_true rfl) in_X3 q2581 (fun _ h => h) dX3_changed_78 (fun v78 => ?_)
    refine rk_of (fun _ _ _ _ _ k => lv_iconst (v := 1) hx hb dX3_changed_81 rfl (lv_iadd hx hb dX3_changed_82 k)) ?_
    refine rk_put C H.2.2.1 (hc_X3 H) (k := 4) (Nat.le_of_ble_eq_true rfl) in_X3 (ty0 := tyX3) tyX3_ok nmX3 q2581 (fun _ h => h) (Or.inl rfl) rfl rfl dX3_changed_83 ?_
    exact rk_top (rf_vret C dX3_changed_86)
  · refine rk_ite (fun _ _ _ _ _ k1 k2 => lv_icmp_ne (tgt := 56) hx hb dX3_changed_6 (by decide) k2 k1) (fun c_6 => ?_) (fun c_6 => ?_)
    · refine rk_ofs (fun _ _ _ _ _ k => lv_iconst (v := 1) hx hb dX3_changed_9 rfl (lr_istore_n hx hb dX3_changed_10 rfl hl (Nat.le_of_ble_eq_true rfl) [0] rfl ⟨va_rf_cat _, trivial⟩ k)) (fun ls hl => ?_)
      refine rk_join (β := Unit) (fun (b46 : Unit) ls => lv_has ls 2 [(0, va_rf a0)]) (fun (b46 : Unit) ls => F0 m 46 ls []) (fun b46 ls hl => ?_) (fun hJ46 => ?_)
      · refine rk_of (fun _ _ _ _ _ k => lr_aload_n hx hb dX3_changed_46 rfl (lv_at hl 0 rfl) (lv_dup hx hb dX3_changed_47 (va_rf_cat _) k)) ?_
        refine rk_get zm_rdI_eq C (hc_X3 H) (k := 4) (Nat.le_of_ble_eq_true rfl) in_X3 q2581 (fun _ h => h) dX3_changed_48 (fun v48 => ?_)
        refine rk_of (fun _ _ _ _ _ k => lv_iconst (v := 1) hx hb dX3_changed_51 rfl (lv_isub hx hb dX3_changed_52 k)) ?_
        refine rk_put C H.2.2.1 (hc_X3 H) (k := 4) (Nat.le_of_ble_eq_true rfl) in_X3 (ty0 := tyX3) tyX3_ok nmX3 q2581 (fun _ h => h) (Or.inl rfl) rfl rfl dX3_changed_53 ?_
        exact hJ56 () ls (lv_sub hl [0] rfl)
      · exact rf_X3_changed_11 H C hX a0 zm_N 1 _ ls (lv_sub hl [1, 0] rfl) hJ46
    · exact hJ56 () ls (lv_sub hl [0] rfl)
theorem hd_X3_ends : yX3_ends.cls ≠ "java/lang/invoke/MethodHandle" ∧ yX3_ends.cls ≠ "java/lang/invoke/VarHandle" ∧ (parseMethodDescriptor yX3_ends.desc).map (fun d => d.parameters.length) = some 2 := by decide +kernel
noncomputable def fn_X3_ends (K : zm_K) (a0 : zm_R) (a1 : Int32) (a2 : Int32) : zm_M Int32 :=
  zm_bnd (zm_getI a0 20 5) fun v1 =>
  if v1 = 0 then
    zm_bnd (zm_bnd (zm_is a0 20) fun _ => fn_X3_changed K a0) fun _ =>
    zm_ret a1
  else
    zm_bnd (zm_getI a0 20 5) fun v9 =>
    zm_bnd (α := Int32) (
        if v9 = 9 then
          zm_ret a2
        else
          zm_bnd (zm_getI a0 20 5) fun v22 =>
          zm_ret v22
      ) fun b25 =>
    zm_bnd (zm_putF K a0 20 5 (.int b25)) fun _ =>
    zm_ret 0
theorem ct_X3_ends {l : Launch} {Ω : zm_W} {K : zm_K} (H : zm_H Ω K) (a0 : zm_R) (a1 : Int32) (a2 : Int32) : zm_Ct l Ω yX3_ends (ws_ yX3_ends cX3_ends 3 (Option.some Jvm.ClassFile.FieldType.int)) 3 109 [va_rf a0, .int a1, .int a2] zm_tvI (fn_X3_ends K a0 a1 a2) := by
  refine zm_ct H.1 (by decide +kernel) (zl_le (zl_R (zl_I (zl_I zl_nil))) (Nat.le_of_ble_eq_true rfl)) ?_
  intro p e R s m args below meth c n0 k0 C hX ls hl
  have hx := C.1
  have hb := C.2.1
  simp only [zg_I, zg_R, zg_nil] at hl
  have hl : lv_has ls 3 [(0, va_rf a0), (1, .int a1), (2, .int a2)] := hl
  refine rk_rf ?_
  unfold fn_X3_ends
  refine rk_of (fun _ _ _ _ _ k => lr_aload_n hx hb dX3_ends_0 rfl (lv_at hl 0 rfl) k) ?_
  refine rk_get zm_rdI_eq C (hc_X3 H) (k := 5) (Nat.le_of_ble_eq_true rfl) in_X3 q2582 (fun _ h => h) dX3_ends_1 (fun v1 => ?_)
  refine rk_ite (fun _ _ _ _ _ k1 k2 => lv_if_eq (tgt := 30) hx hb dX3_ends_4 (by decide) k1 k2) (fun c_4 => ?_) (fun c_4 => ?_)
  · refine rk_of (fun _ _ _ _ _ k => lr_aload_n hx hb dX3_ends_30 rfl (lv_at hl 0 rfl) k) ?_
    refine rk_callV hX (cl_V (rest := []) (av := []) C (hc_X3 H) (ct_X3_changed H a0) (lw_V q2677 q2679 qs49 q112 q2680) ⟨rfl, hd_X3_changed⟩ ⟨(Nat.le_of_ble_eq_true rfl), (Nat.le_of_ble_eq_true rfl)⟩ rfl hl.1 rfl (zw_le zw_nil (Nat.le_of_ble_eq_true rfl)) dX3_ends_31) (fun _ => ?_)
    refine rk_of (fun _ _ _ _ _ k => lv_iload_n hx hb dX3_ends_34 rfl (lv_at hl 1 rfl) k) ?_
    exact rk_top (rf_iret C rfl dX3_ends_35)
  · refine rk_of (fun _ _ _ _ _ k => lr_aload_n hx hb dX3_ends_7 rfl (lv_at hl 0 rfl) (lr_aload_n hx hb dX3_ends_8 rfl (lv_at hl 0 rfl) k)) ?_
    refine rk_get zm_rdI_eq C (hc_X3 H) (k := 5) (Nat.le_of_ble_eq_true rfl) in_X3 q2582 (fun _ h => h) dX3_ends_9 (fun v9 => ?_)
    refine rk_of (fun _ _ _ _ _ k => lv_bipush (v := 9) hx hb dX3_ends_12 rfl k) ?_
    refine rk_join (β := Int32) (fun (b25 : Int32) ls => lv_has ls 3 []) (fun (b25 : Int32) ls => F0 m 25 ls [.int b25, va_rf a0]) (fun b25 ls hl => ?_) (fun hJ25 => ?_)
    · refine rk_put C H.2.2.1 (hc_X3 H) (k := 5) (Nat.le_of_ble_eq_true rfl) in_X3 (ty0 := tyX3) tyX3_ok nmX3 q2582 (fun _ h => h) (Or.inl rfl) rfl rfl dX3_ends_25 ?_
      refine rk_of (fun _ _ _ _ _ k => lv_iconst (v := 0) hx hb dX3_ends_28 rfl k) ?_
      exact rk_top (rf_iret C rfl dX3_ends_29)
    · refine rk_ite (fun _ _ _ _ _ k1 k2 => lv_icmp_ne (tgt := 21) hx hb dX3_ends_14 (by decide) k2 k1) (fun c_14 => ?_) (fun c_14 => ?_)
      · refine rk_of (fun _ _ _ _ _ k => lv_iload_n hx hb dX3_ends_17 rfl (lv_at hl 2 rfl) (lv_goto (tgt := 25) hx hb dX3_ends_18 (by decide) k)) ?_
        exact hJ25 a2 ls (lv_sub hl [] rfl)
      · refine rk_of (fun _ _ _ _ _ k => lr_aload_n hx hb dX3_ends_21 rfl (lv_at hl 0 rfl) k) ?_
        refine rk_get zm_rdI_eq C (hc_X3 H) (k := 5) (Nat.le_of_ble_eq_true rfl) in_X3 q2582 (fun _ h => h) dX3_ends_22 (fun v22 => ?_)
        exact hJ25 v22 ls (lv_sub hl [] rfl)
theorem hd_X3_allot : yX3_allot.cls ≠ "java/lang/invoke/MethodHandle" ∧ yX3_allot.cls ≠ "java/lang/invoke/VarHandle" ∧ (parseMethodDescriptor yX3_allot.desc).map (fun d => d.parameters.length) = some 0 := by decide +kernel
noncomputable def fn_X3_allot (K : zm_K) (a0 : zm_R) : zm_M Int32 :=
  zm_bnd (zm_bnd (zm_is a0 20) fun _ => fn_X3_keeps K a0) fun _ =>
  zm_bnd (zm_bnd (zm_is a0 20) fun _ => fn_X3_allots K a0) fun v6 =>
  zm_bnd (zm_bnd (zm_is a0 20) fun _ => fn_X3_ends K a0 v6 1) fun v10 =>
  zm_ret v10
theorem ct_X3_allot {l : Launch} {Ω : zm_W} {K : zm_K} (H : zm_H Ω K) (a0 : zm_R) : zm_Ct l Ω yX3_allot (ws_ yX3_allot cX3_allot 1 (Option.some Jvm.ClassFile.FieldType.int)) 7 205 [va_rf a0] zm_tvI (fn_X3_allot K a0) := by
  refine zm_ct H.1 (by decide +kernel) (zl_le (zl_R zl_nil) (Nat.le_of_ble_eq_true rfl)) ?_
  intro p e R s m args below meth c n0 k0 C hX ls hl
  have hx := C.1
  have hb := C.2.1
  simp only [zg_R, zg_nil] at hl
  have hl : lv_has ls 1 [(0, va_rf a0)] := hl
  refine rk_rf ?_
  unfold fn_X3_allot
  refine rk_of (fun _ _ _ _ _ k => lr_aload_n hx hb dX3_allot_0 rfl (lv_at hl 0 rfl) k) ?_
  refine rk_callV hX (cl_V (rest := []) (av := []) C (hc_X3 H) (ct_X3_keeps H a0) (lw_V q2655 q2657 qs45 q112 q2658) ⟨rfl, hd_X3_keeps⟩ ⟨(Nat.le_of_ble_eq_true rfl), (Nat.le_of_ble_eq_true rfl)⟩ rfl hl.1 rfl (zw_le zw_nil (Nat.le_of_ble_eq_true rfl)) dX3_allot_1) (fun _ => ?_)
  refine rk_of (fun _ _ _ _ _ k => lr_aload_n hx hb dX3_allot_4 rfl (lv_at hl 0 rfl) (lr_aload_n hx hb dX3_allot_5 rfl (lv_at hl 0 rfl) k)) ?_
  refine rk_callI hX (cl_V (rest := [va_rf a0]) (av := []) C (hc_X3 H) (ct_X3_allots H a0) (lw_V q2846 q2848 qs70 q112 q2849) ⟨rfl, hd_X3_allots⟩ ⟨(Nat.le_of_ble_eq_true rfl), (Nat.le_of_ble_eq_true rfl)⟩ rfl hl.1 rfl (zw_le (zw_R zw_nil) (Nat.le_of_ble_eq_true rfl)) dX3_allot_6) (fun v6 => ?_)
  refine rk_of (fun _ _ _ _ _ k => lv_iconst (v := 1) hx hb dX3_allot_9 rfl k) ?_
  refine rk_callI hX (cl_V (rest := []) (av := [.int v6, .int 1]) C (hc_X3 H) (ct_X3_ends H a0 v6 1) (lw_V q2673 q2675 qs48 q112 q2676) ⟨rfl, hd_X3_ends⟩ ⟨(Nat.le_of_ble_eq_true rfl), (Nat.le_of_ble_eq_true rfl)⟩ rfl hl.1 rfl (zw_le zw_nil (Nat.le_of_ble_eq_true rfl)) dX3_allot_10) (fun v10 => ?_)
  exact rk_top (rf_iret C rfl dX3_allot_13)
theorem hd_X3_isBox : yX3_isBox.cls ≠ "java/lang/invoke/MethodHandle" ∧ yX3_isBox.cls ≠ "java/lang/invoke/VarHandle" ∧ (parseMethodDescriptor yX3_isBox.desc).map (fun d => d.parameters.length) = some 1 := by decide +kernel
noncomputable def fn_X3_isBox (K : zm_K) (a0 : zm_R) (a1 : Int32) : zm_M Int32 :=
  zm_bnd (zm_getR a0 20 0) fun v3 =>
  zm_bnd (zm_aldI .int v3 0) fun v7 =>
  zm_bnd (fn_X3_isIn K a1 0 (v7 - 1)) fun v10 =>
  zm_bnd (zm_grd (v10 = 0 ∨ v10 = 1)) fun _ =>
  zm_ret v10
theorem ct_X3_isBox {l : Launch} {Ω : zm_W} {K : zm_K} (H : zm_H Ω K) (a0 : zm_R) (a1 : Int32) : zm_Ct l Ω yX3_isBox (ws_ yX3_isBox cX3_isBox 2 (Option.some Jvm.ClassFile.FieldType.boolean)) 2 86 [va_rf a0, .int a1] zm_tvI (fn_X3_isBox K a0 a1) := by
  refine zm_ct H.1 (by decide +kernel) (zl_le (zl_R (zl_I zl_nil)) (Nat.le_of_ble_eq_true rfl)) ?_
  intro p e R s m args below meth c n0 k0 C hX ls hl
  have hx := C.1
  have hb := C.2.1
  simp only [zg_I, zg_R, zg_nil] at hl
  have hl : lv_has ls 2 [(0, va_rf a0), (1, .int a1)] := hl
  refine rk_rf ?_
  unfold fn_X3_isBox
  refine rk_of (fun _ _ _ _ _ k => lv_iload_n hx hb dX3_isBox_0 rfl (lv_at hl 1 rfl) (lv_iconst (v := 0) hx hb dX3_isBox_1 rfl (lr_aload_n hx hb dX3_isBox_2 rfl (lv_at hl 0 rfl) k))) ?_
  refine rk_get zm_rdR_eq C (hc_X3 H) (k := 0) (Nat.le_of_ble_eq_true rfl) in_X3 q2577 (fun _ h => h) dX3_isBox_3 (fun v3 => ?_)
  refine rk_of (fun _ _ _ _ _ k => lv_iconst (v := 0) hx hb dX3_isBox_6 rfl k) ?_
  refine rk_iald C dX3_isBox_7 (fun v7 => ?_)
  refine rk_of (fun _ _ _ _ _ k => lv_iconst (v := 1) hx hb dX3_isBox_8 rfl (lv_isub hx hb dX3_isBox_9 k)) ?_
  refine rk_callI hX (cl_S (rest := []) C (ct_X3_isIn H a1 0 (v7 - 1)) (lw_S q2662 q2663 q112 q2664) hd_X3_isIn ⟨(Nat.le_of_ble_eq_true rfl), (Nat.le_of_ble_eq_true rfl)⟩ rfl hl.1 rfl (zw_le zw_nil (Nat.le_of_ble_eq_true rfl)) dX3_isBox_10) (fun v10 => ?_)
  refine rk_grd (fun hg_13 => ?_)
  exact rk_top (rf_iret C (zn_Z hg_13) dX3_isBox_13)
theorem hd_X3_isMinute : yX3_isMinute.cls ≠ "java/lang/invoke/MethodHandle" ∧ yX3_isMinute.cls ≠ "java/lang/invoke/VarHandle" ∧ (parseMethodDescriptor yX3_isMinute.desc).map (fun d => d.parameters.length) = some 1 := by decide +kernel
noncomputable def fn_X3_isMinute (K : zm_K) (a0 : Int32) : zm_M Int32 :=
  zm_bnd (fn_X3_isIn K a0 0 599) fun v5 =>
  zm_bnd (zm_grd (v5 = 0 ∨ v5 = 1)) fun _ =>
  zm_ret v5
theorem ct_X3_isMinute {l : Launch} {Ω : zm_W} {K : zm_K} (H : zm_H Ω K) (a0 : Int32) : zm_Ct l Ω yX3_isMinute (ws_ yX3_isMinute cX3_isMinute 1 (Option.some Jvm.ClassFile.FieldType.boolean)) 2 86 [.int a0] zm_tvI (fn_X3_isMinute K a0) := by
  refine zm_ct H.1 (by decide +kernel) (zl_le (zl_I zl_nil) (Nat.le_of_ble_eq_true rfl)) ?_
  intro p e R s m args below meth c n0 k0 C hX ls hl
  have hx := C.1
  have hb := C.2.1
  simp only [zg_I, zg_nil] at hl
  have hl : lv_has ls 1 [(0, .int a0)] := hl
  refine rk_rf ?_
  unfold fn_X3_isMinute
  refine rk_of (fun _ _ _ _ _ k => lv_iload_n hx hb dX3_isMinute_0 rfl (lv_at hl 0 rfl) (lv_iconst (v := 0) hx hb dX3_isMinute_1 rfl (lv_sipush (v := 599) hx hb dX3_isMinute_2 rfl k))) ?_
  refine rk_callI hX (cl_S (rest := []) C (ct_X3_isIn H a0 0 599) (lw_S q2662 q2663 q112 q2664) hd_X3_isIn ⟨(Nat.le_of_ble_eq_true rfl), (Nat.le_of_ble_eq_true rfl)⟩ rfl hl.1 rfl (zw_le zw_nil (Nat.le_of_ble_eq_true rfl)) dX3_isMinute_5) (fun v5 => ?_)
  refine rk_grd (fun hg_8 => ?_)
  exact rk_top (rf_iret C (zn_Z hg_8) dX3_isMinute_8)
theorem hd_X3_letAt : yX3_letAt.cls ≠ "java/lang/invoke/MethodHandle" ∧ yX3_letAt.cls ≠ "java/lang/invoke/VarHandle" ∧ (parseMethodDescriptor yX3_letAt.desc).map (fun d => d.parameters.length) = some 2 := by decide +kernel
noncomputable def fn_X3_letAt (K : zm_K) (a0 : zm_R) (a1 : Int32) (a2 : Int32) : zm_M Int32 :=
  zm_bnd (zm_bnd (zm_is a0 20) fun _ => fn_X3_inTheWay K a0 a1 a2 (a2 + 1) (-1)) fun v7 =>
  zm_ret v7
theorem ct_X3_letAt {l : Launch} {Ω : zm_W} {K : zm_K} (H : zm_H Ω K) (a0 : zm_R) (a1 : Int32) (a2 : Int32) : zm_Ct l Ω yX3_letAt (ws_ yX3_letAt cX3_letAt 3 (Option.some Jvm.ClassFile.FieldType.int)) 5 155 [va_rf a0, .int a1, .int a2] zm_tvI (fn_X3_letAt K a0 a1 a2) := by
  refine zm_ct H.1 (by decide +kernel) (zl_le (zl_R (zl_I (zl_I zl_nil))) (Nat.le_of_ble_eq_true rfl)) ?_
  intro p e R s m args below meth c n0 k0 C hX ls hl
  have hx := C.1
  have hb := C.2.1
  simp only [zg_I, zg_R, zg_nil] at hl
  have hl : lv_has ls 3 [(0, va_rf a0), (1, .int a1), (2, .int a2)] := hl
  refine rk_rf ?_
  unfold fn_X3_letAt
  refine rk_of (fun _ _ _ _ _ k => lr_aload_n hx hb dX3_letAt_0 rfl (lv_at hl 0 rfl) (lv_iload_n hx hb dX3_letAt_1 rfl (lv_at hl 1 rfl) (lv_iload_n hx hb dX3_letAt_2 rfl (lv_at hl 2 rfl) (lv_iload_n hx hb dX3_letAt_3 rfl (lv_at hl 2 rfl) (lv_iconst (v := 1) hx hb dX3_letAt_4 rfl (lv_iadd hx hb dX3_letAt_5 (lv_iconst (v := (-1)) hx hb dX3_letAt_6 rfl k))))))) ?_
  refine rk_callI hX (cl_V (rest := []) (av := [.int a1, .int a2, .int (a2 + 1), .int (-1)]) C (hc_X3 H) (ct_X3_inTheWay H a0 a1 a2 (a2 + 1) (-1)) (lw_V q2699 q2701 qs52 q112 q2702) ⟨rfl, hd_X3_inTheWay⟩ ⟨(Nat.le_of_ble_eq_true rfl), (Nat.le_of_ble_eq_true rfl)⟩ rfl hl.1 rfl (zw_le zw_nil (Nat.le_of_ble_eq_true rfl)) dX3_letAt_7) (fun v7 => ?_)
  exact rk_top (rf_iret C rfl dX3_letAt_10)
theorem hd_X3_at : yX3_at.cls ≠ "java/lang/invoke/MethodHandle" ∧ yX3_at.cls ≠ "java/lang/invoke/VarHandle" ∧ (parseMethodDescriptor yX3_at.desc).map (fun d => d.parameters.length) = some 2 := by decide +kernel
noncomputable def fn_X3_at (K : zm_K) (a0 : zm_R) (a1 : Int32) (a2 : Int32) : zm_M Int32 :=
  zm_bnd (zm_bnd (zm_is a0 20) fun _ => fn_X3_isBox K a0 a1) fun v3 =>
  zm_bnd (α := Int32) (
      if v3 = 0 then
        zm_ret 1
      else
        zm_ret 0
    ) fun b14 =>
  zm_bnd (zm_bnd (zm_is a0 20) fun _ => fn_X3_isThrown K a0 b14 1) fun v15 =>
  if v15 = 0 then
    zm_bnd (fn_X3_isMinute K a2) fun v23 =>
    zm_bnd (α := Int32) (
        if v23 = 0 then
          zm_ret 1
        else
          zm_ret 0
      ) fun b34 =>
    zm_bnd (zm_bnd (zm_is a0 20) fun _ => fn_X3_isThrown K a0 b34 2) fun v35 =>
    if v35 = 0 then
      zm_bnd (zm_bnd (zm_is a0 20) fun _ => fn_X3_letAt K a0 a1 a2) fun v46 =>
      zm_ret v46
    else
      zm_ret 0
  else
    zm_ret 0
theorem ct_X3_at {l : Launch} {Ω : zm_W} {K : zm_K} (H : zm_H Ω K) (a0 : zm_R) (a1 : Int32) (a2 : Int32) : zm_Ct l Ω yX3_at (ws_ yX3_at cX3_at 3 (Option.some Jvm.ClassFile.FieldType.int)) 6 177 [va_rf a0, .int a1, .int a2] zm_tvI (fn_X3_at K a0 a1 a2) := by
  refine zm_ct H.1 (by decide +kernel) (zl_le (zl_R (zl_I (zl_I zl_nil))) (Nat.le_of_ble_eq_true rfl)) ?_
  intro p e R s m args below meth c n0 k0 C hX ls hl
  have hx := C.1
  have hb := C.2.1
  simp only [zg_I, zg_R, zg_nil] at hl
  have hl : lv_has ls 3 [(0, va_rf a0), (1, .int a1), (2, .int a2)] := hl
  refine rk_rf ?_
  unfold fn_X3_at
  refine rk_of (fun _ _ _ _ _ k => lr_aload_n hx hb dX3_at_0 rfl (lv_at hl 0 rfl) (lr_aload_n hx hb dX3_at_1 rfl (lv_at hl 0 rfl) (lv_iload_n hx hb dX3_at_2 rfl (lv_at hl 1 rfl) k))) ?_
  refine rk_callI hX (cl_V (rest := [va_rf a0]) (av := [.int a1]) C (hc_X3 H) (ct_X3_isBox H a0 a1) (lw_V q2685 q2687 qs50 q112 q2688) ⟨rfl, hd_X3_isBox⟩ ⟨(Nat.le_of_ble_eq_true rfl), (Nat.le_of_ble_eq_true rfl)⟩ rfl hl.1 rfl (zw_le (zw_R zw_nil) (Nat.le_of_ble_eq_true rfl)) dX3_at_3) (fun v3 => ?_)
  refine rk_join (β := Int32) (fun (b14 : Int32) ls => lv_has ls 3 [(0, va_rf a0), (1, .int a1), (2, .int a2)]) (fun (b14 : Int32) ls => F0 m 14 ls [.int b14, va_rf a0]) (fun b14 ls hl => ?_) (fun hJ14 => ?_)
  · refine rk_of (fun _ _ _ _ _ k => lv_iconst (v := 1) hx hb dX3_at_14 rfl k) ?_
    refine rk_callI hX (cl_V (rest := []) (av := [.int b14, .int 1]) C (hc_X3 H) (ct_X3_isThrown H a0 b14 1) (lw_V q2665 q2667 qs46 q112 q2668) ⟨rfl, hd_X3_isThrown⟩ ⟨(Nat.le_of_ble_eq_true rfl), (Nat.le_of_ble_eq_true rfl)⟩ rfl hl.1 rfl (zw_le zw_nil (Nat.le_of_ble_eq_true rfl)) dX3_at_15) (fun v15 => ?_)
    refine rk_ite (fun _ _ _ _ _ k1 k2 => lv_if_ne (tgt := 41) hx hb dX3_at_18 (by decide) k2 k1) (fun c_18 => ?_) (fun c_18 => ?_)
    · refine rk_of (fun _ _ _ _ _ k => lr_aload_n hx hb dX3_at_21 rfl (lv_at hl 0 rfl) (lv_iload_n hx hb dX3_at_22 rfl (lv_at hl 2 rfl) k)) ?_
      refine rk_callI hX (cl_S (rest := [va_rf a0]) C (ct_X3_isMinute H a2) (lw_S q2692 q2693 q112 q2694) hd_X3_isMinute ⟨(Nat.le_of_ble_eq_true rfl), (Nat.le_of_ble_eq_true rfl)⟩ rfl hl.1 rfl (zw_le (zw_R zw_nil) (Nat.le_of_ble_eq_true rfl)) dX3_at_23) (fun v23 => ?_)
      refine rk_join (β := Int32) (fun (b34 : Int32) ls => lv_has ls 3 [(0, va_rf a0), (1, .int a1), (2, .int a2)]) (fun (b34 : Int32) ls => F0 m 34 ls [.int b34, va_rf a0]) (fun b34 ls hl => ?_) (fun hJ34 => ?_)
      · refine rk_of (fun _ _ _ _ _ k => lv_iconst (v := 2) hx hb dX3_at_34 rfl k) ?_
        refine rk_callI hX (cl_V (rest := []) (av := [.int b34, .int 2]) C (hc_X3 H) (ct_X3_isThrown H a0 b34 2) (lw_V q2665 q2667 qs46 q112 q2668) ⟨rfl, hd_X3_isThrown⟩ ⟨(Nat.le_of_ble_eq_true rfl), (Nat.le_of_ble_eq_true rfl)⟩ rfl hl.1 rfl (zw_le zw_nil (Nat.le_of_ble_eq_true rfl)) dX3_at_35) (fun v35 => ?_)
        refine rk_ite (fun _ _ _ _ _ k1 k2 => lv_if_eq (tgt := 43) hx hb dX3_at_38 (by decide) k1 k2) (fun c_38 => ?_) (fun c_38 => ?_)
        · refine rk_of (fun _ _ _ _ _ k => lr_aload_n hx hb dX3_at_43 rfl (lv_at hl 0 rfl) (lv_iload_n hx hb dX3_at_44 rfl (lv_at hl 1 rfl) (lv_iload_n hx hb dX3_at_45 rfl (lv_at hl 2 rfl) k))) ?_
          refine rk_callI hX (cl_V (rest := []) (av := [.int a1, .int a2]) C (hc_X3 H) (ct_X3_letAt H a0 a1 a2) (lw_V q2783 q2785 qs64 q112 q2786) ⟨rfl, hd_X3_letAt⟩ ⟨(Nat.le_of_ble_eq_true rfl), (Nat.le_of_ble_eq_true rfl)⟩ rfl hl.1 rfl (zw_le zw_nil (Nat.le_of_ble_eq_true rfl)) dX3_at_46) (fun v46 => ?_)
          exact rk_top (rf_iret C rfl dX3_at_49)
        · refine rk_of (fun _ _ _ _ _ k => lv_iconst (v := 0) hx hb dX3_at_41 rfl k) ?_
          exact rk_top (rf_iret C rfl dX3_at_42)
      · refine rk_ite (fun _ _ _ _ _ k1 k2 => lv_if_ne (tgt := 33) hx hb dX3_at_26 (by decide) k2 k1) (fun c_26 => ?_) (fun c_26 => ?_)
        · refine rk_of (fun _ _ _ _ _ k => lv_iconst (v := 1) hx hb dX3_at_29 rfl (lv_goto (tgt := 34) hx hb dX3_at_30 (by decide) k)) ?_
          exact hJ34 1 ls (lv_sub hl [0, 1, 2] rfl)
        · refine rk_of (fun _ _ _ _ _ k => lv_iconst (v := 0) hx hb dX3_at_33 rfl k) ?_
          exact hJ34 0 ls (lv_sub hl [0, 1, 2] rfl)
    · refine rk_of (fun _ _ _ _ _ k => lv_iconst (v := 0) hx hb dX3_at_41 rfl k) ?_
      exact rk_top (rf_iret C rfl dX3_at_42)
  · refine rk_ite (fun _ _ _ _ _ k1 k2 => lv_if_ne (tgt := 13) hx hb dX3_at_6 (by decide) k2 k1) (fun c_6 => ?_) (fun c_6 => ?_)
    · refine rk_of (fun _ _ _ _ _ k => lv_iconst (v := 1) hx hb dX3_at_9 rfl (lv_goto (tgt := 14) hx hb dX3_at_10 (by decide) k)) ?_
      exact hJ14 1 ls (lv_sub hl [0, 1, 2] rfl)
    · refine rk_of (fun _ _ _ _ _ k => lv_iconst (v := 0) hx hb dX3_at_13 rfl k) ?_
      exact hJ14 0 ls (lv_sub hl [0, 1, 2] rfl)
theorem hd_X3_box : yX3_box.cls ≠ "java/lang/invoke/MethodHandle" ∧ yX3_box.cls ≠ "java/lang/invoke/VarHandle" ∧ (parseMethodDescriptor yX3_box.desc).map (fun d => d.parameters.length) = some 1 := by decide +kernel
noncomputable def fn_X3_box (K : zm_K) (a0 : zm_R) (a1 : Int32) : zm_M Int32 :=
  zm_bnd (zm_bnd (zm_is a0 20) fun _ => fn_X3_keeps K a0) fun _ =>
  zm_bnd (fn_X3_isIn K a1 1 8) fun v9 =>
  zm_bnd (α := Int32) (
      if v9 = 0 then
        zm_ret 1
      else
        zm_ret 0
    ) fun b20 =>
  zm_bnd (zm_bnd (zm_is a0 20) fun _ => fn_X3_isThrown K a0 b20 1) fun v21 =>
  if v21 = 0 then
    zm_bnd (zm_getR a0 20 0) fun v31 =>
    zm_bnd (zm_aldI .int v31 0) fun v35 =>
    zm_bnd (α := Int32) (
        if v35 = 5 then
          zm_ret 1
        else
          zm_ret 0
      ) fun b45 =>
    zm_bnd (zm_bnd (zm_is a0 20) fun _ => fn_X3_isRefused K a0 b45 1 5) fun v47 =>
    if v47 = 0 then
      zm_bnd (zm_getR a0 20 0) fun v61 =>
      zm_bnd (zm_getR a0 20 0) fun v67 =>
      zm_bnd (zm_aldI .int v67 0) fun v71 =>
      zm_bnd (zm_astI K .int v61 (6 + v71) a1) fun _ =>
      zm_bnd (zm_getR a0 20 0) fun v76 =>
      zm_bnd (zm_aldI .int v76 0) fun v81 =>
      zm_bnd (zm_astI K .int v76 0 (v81 + 1)) fun _ =>
      zm_bnd (zm_getR a0 20 0) fun v87 =>
      zm_bnd (zm_aldI .int v87 0) fun v91 =>
      zm_bnd (zm_bnd (zm_is a0 20) fun _ => fn_X3_ends K a0 (v91 - 1) 2) fun v95 =>
      zm_ret v95
    else
      zm_bnd (zm_bnd (zm_is a0 20) fun _ => fn_X3_ends K a0 0 2) fun v56 =>
      zm_ret v56
  else
    zm_ret 0
theorem ct_X3_box {l : Launch} {Ω : zm_W} {K : zm_K} (H : zm_H Ω K) (a0 : zm_R) (a1 : Int32) : zm_Ct l Ω yX3_box (ws_ yX3_box cX3_box 2 (Option.some Jvm.ClassFile.FieldType.int)) 4 131 [va_rf a0, .int a1] zm_tvI (fn_X3_box K a0 a1) := by
  refine zm_ct H.1 (by decide +kernel) (zl_le (zl_R (zl_I zl_nil)) (Nat.le_of_ble_eq_true rfl)) ?_
  intro p e R s m args below meth c n0 k0 C hX ls hl
  have hx := C.1
  have hb := C.2.1
  simp only [zg_I, zg_R, zg_nil] at hl
  have hl : lv_has ls 2 [(0, va_rf a0), (1, .int a1)] := hl
  refine rk_rf ?_
  unfold fn_X3_box
  refine rk_of (fun _ _ _ _ _ k => lr_aload_n hx hb dX3_box_0 rfl (lv_at hl 0 rfl) k) ?_
  refine rk_callV hX (cl_V (rest := []) (av := []) C (hc_X3 H) (ct_X3_keeps H a0) (lw_V q2655 q2657 qs45 q112 q2658) ⟨rfl, hd_X3_keeps⟩ ⟨(Nat.le_of_ble_eq_true rfl), (Nat.le_of_ble_eq_true rfl)⟩ rfl hl.1 rfl (zw_le zw_nil (Nat.le_of_ble_eq_true rfl)) dX3_box_1) (fun _ => ?_)
  refine rk_of (fun _ _ _ _ _ k => lr_aload_n hx hb dX3_box_4 rfl (lv_at hl 0 rfl) (lv_iload_n hx hb dX3_box_5 rfl (lv_at hl 1 rfl) (lv_iconst (v := 1) hx hb dX3_box_6 rfl (lv_bipush (v := 8) hx hb dX3_box_7 rfl k)))) ?_
  refine rk_callI hX (cl_S (rest := [va_rf a0]) C (ct_X3_isIn H a1 1 8) (lw_S q2662 q2663 q112 q2664) hd_X3_isIn ⟨(Nat.le_of_ble_eq_true rfl), (Nat.le_of_ble_eq_true rfl)⟩ rfl hl.1 rfl (zw_le (zw_R zw_nil) (Nat.le_of_ble_eq_true rfl)) dX3_box_9) (fun v9 => ?_)
  refine rk_join (β := Int32) (fun (b20 : Int32) ls => lv_has ls 2 [(0, va_rf a0), (1, .int a1)]) (fun (b20 : Int32) ls => F0 m 20 ls [.int b20, va_rf a0]) (fun b20 ls hl => ?_) (fun hJ20 => ?_)
  · refine rk_of (fun _ _ _ _ _ k => lv_iconst (v := 1) hx hb dX3_box_20 rfl k) ?_
    refine rk_callI hX (cl_V (rest := []) (av := [.int b20, .int 1]) C (hc_X3 H) (ct_X3_isThrown H a0 b20 1) (lw_V q2665 q2667 qs46 q112 q2668) ⟨rfl, hd_X3_isThrown⟩ ⟨(Nat.le_of_ble_eq_true rfl), (Nat.le_of_ble_eq_true rfl)⟩ rfl hl.1 rfl (zw_le zw_nil (Nat.le_of_ble_eq_true rfl)) dX3_box_21) (fun v21 => ?_)
    refine rk_ite (fun _ _ _ _ _ k1 k2 => lv_if_eq (tgt := 29) hx hb dX3_box_24 (by decide) k1 k2) (fun c_24 => ?_) (fun c_24 => ?_)
    · refine rk_of (fun _ _ _ _ _ k => lr_aload_n hx hb dX3_box_29 rfl (lv_at hl 0 rfl) (lr_aload_n hx hb dX3_box_30 rfl (lv_at hl 0 rfl) k)) ?_
      refine rk_get zm_rdR_eq C (hc_X3 H) (k := 0) (Nat.le_of_ble_eq_true rfl) in_X3 q2577 (fun _ h => h) dX3_box_31 (fun v31 => ?_)
      refine rk_of (fun _ _ _ _ _ k => lv_iconst (v := 0) hx hb dX3_box_34 rfl k) ?_
      refine rk_iald C dX3_box_35 (fun v35 => ?_)
      refine rk_of (fun _ _ _ _ _ k => lv_iconst (v := 5) hx hb dX3_box_36 rfl k) ?_
      refine rk_join (β := Int32) (fun (b45 : Int32) ls => lv_has ls 2 [(0, va_rf a0), (1, .int a1)]) (fun (b45 : Int32) ls => F0 m 45 ls [.int b45, va_rf a0]) (fun b45 ls hl => ?_) (fun hJ45 => ?_)
      · refine rk_of (fun _ _ _ _ _ k => lv_iconst (v := 1) hx hb dX3_box_45 rfl (lv_iconst (v := 5) hx hb dX3_box_46 rfl k)) ?_
        refine rk_callI hX (cl_V (rest := []) (av := [.int b45, .int 1, .int 5]) C (hc_X3 H) (ct_X3_isRefused H a0 b45 1 5) (lw_V q2669 q2671 qs47 q112 q2672) ⟨rfl, hd_X3_isRefused⟩ ⟨(Nat.le_of_ble_eq_true rfl), (Nat.le_of_ble_eq_true rfl)⟩ rfl hl.1 rfl (zw_le zw_nil (Nat.le_of_ble_eq_true rfl)) dX3_box_47) (fun v47 => ?_)
        refine rk_ite (fun _ _ _ _ _ k1 k2 => lv_if_eq (tgt := 60) hx hb dX3_box_50 (by decide) k1 k2) (fun c_50 => ?_) (fun c_50 => ?_)
        · refine rk_of (fun _ _ _ _ _ k => lr_aload_n hx hb dX3_box_60 rfl (lv_at hl 0 rfl) k) ?_
          refine rk_get zm_rdR_eq C (hc_X3 H) (k := 0) (Nat.le_of_ble_eq_true rfl) in_X3 q2577 (fun _ h => h) dX3_box_61 (fun v61 => ?_)
          refine rk_of (fun _ _ _ _ _ k => lv_bipush (v := 6) hx hb dX3_box_64 rfl (lr_aload_n hx hb dX3_box_66 rfl (lv_at hl 0 rfl) k)) ?_
          refine rk_get zm_rdR_eq C (hc_X3 H) (k := 0) (Nat.le_of_ble_eq_true rfl) in_X3 q2577 (fun _ h => h) dX3_box_67 (fun v67 => ?_)
          refine rk_of (fun _ _ _ _ _ k => lv_iconst (v := 0) hx hb dX3_box_70 rfl k) ?_
          refine rk_iald C dX3_box_71 (fun v71 => ?_)
          refine rk_of (fun _ _ _ _ _ k => lv_iadd hx hb dX3_box_72 (lv_iload_n hx hb dX3_box_73 rfl (lv_at hl 1 rfl) k)) ?_
          refine rk_iast C H.2.2.1 dX3_box_74 ?_
          refine rk_of (fun _ _ _ _ _ k => lr_aload_n hx hb dX3_box_75 rfl (lv_at hl 0 rfl) k) ?_
          refine rk_get zm_rdR_eq C (hc_X3 H) (k := 0) (Nat.le_of_ble_eq_true rfl) in_X3 q2577 (fun _ h => h) dX3_box_76 (fun v76 => ?_)
          refine rk_of (fun _ _ _ _ _ k => lv_iconst (v := 0) hx hb dX3_box_79 rfl (lv_dup2_11 hx hb dX3_box_80 rfl (va_rf_cat _) k)) ?_
          refine rk_iald C dX3_box_81 (fun v81 => ?_)
          refine rk_of (fun _ _ _ _ _ k => lv_iconst (v := 1) hx hb dX3_box_82 rfl (lv_iadd hx hb dX3_box_83 k)) ?_
          refine rk_iast C H.2.2.1 dX3_box_84 ?_
          refine rk_of (fun _ _ _ _ _ k => lr_aload_n hx hb dX3_box_85 rfl (lv_at hl 0 rfl) (lr_aload_n hx hb dX3_box_86 rfl (lv_at hl 0 rfl) k)) ?_
          refine rk_get zm_rdR_eq C (hc_X3 H) (k := 0) (Nat.le_of_ble_eq_true rfl) in_X3 q2577 (fun _ h => h) dX3_box_87 (fun v87 => ?_)
          refine rk_of (fun _ _ _ _ _ k => lv_iconst (v := 0) hx hb dX3_box_90 rfl k) ?_
          refine rk_iald C dX3_box_91 (fun v91 => ?_)
          refine rk_of (fun _ _ _ _ _ k => lv_iconst (v := 1) hx hb dX3_box_92 rfl (lv_isub hx hb dX3_box_93 (lv_iconst (v := 2) hx hb dX3_box_94 rfl k))) ?_
          refine rk_callI hX (cl_V (rest := []) (av := [.int (v91 - 1), .int 2]) C (hc_X3 H) (ct_X3_ends H a0 (v91 - 1) 2) (lw_V q2673 q2675 qs48 q112 q2676) ⟨rfl, hd_X3_ends⟩ ⟨(Nat.le_of_ble_eq_true rfl), (Nat.le_of_ble_eq_true rfl)⟩ rfl hl.1 rfl (zw_le zw_nil (Nat.le_of_ble_eq_true rfl)) dX3_box_95) (fun v95 => ?_)
          exact rk_top (rf_iret C rfl dX3_box_98)
        · refine rk_of (fun _ _ _ _ _ k => lr_aload_n hx hb dX3_box_53 rfl (lv_at hl 0 rfl) (lv_iconst (v := 0) hx hb dX3_box_54 rfl (lv_iconst (v := 2) hx hb dX3_box_55 rfl k))) ?_
          refine rk_callI hX (cl_V (rest := []) (av := [.int 0, .int 2]) C (hc_X3 H) (ct_X3_ends H a0 0 2) (lw_V q2673 q2675 qs48 q112 q2676) ⟨rfl, hd_X3_ends⟩ ⟨(Nat.le_of_ble_eq_true rfl), (Nat.le_of_ble_eq_true rfl)⟩ rfl hl.1 rfl (zw_le zw_nil (Nat.le_of_ble_eq_true rfl)) dX3_box_56) (fun v56 => ?_)
          exact rk_top (rf_iret C rfl dX3_box_59)
      · refine rk_ite (fun _ _ _ _ _ k1 k2 => lv_icmp_ne (tgt := 44) hx hb dX3_box_37 (by decide) k2 k1) (fun c_37 => ?_) (fun c_37 => ?_)
        · refine rk_of (fun _ _ _ _ _ k => lv_iconst (v := 1) hx hb dX3_box_40 rfl (lv_goto (tgt := 45) hx hb dX3_box_41 (by decide) k)) ?_
          exact hJ45 1 ls (lv_sub hl [0, 1] rfl)
        · refine rk_of (fun _ _ _ _ _ k => lv_iconst (v := 0) hx hb dX3_box_44 rfl k) ?_
          exact hJ45 0 ls (lv_sub hl [0, 1] rfl)
    · refine rk_of (fun _ _ _ _ _ k => lv_iconst (v := 0) hx hb dX3_box_27 rfl k) ?_
      exact rk_top (rf_iret C rfl dX3_box_28)
  · refine rk_ite (fun _ _ _ _ _ k1 k2 => lv_if_ne (tgt := 19) hx hb dX3_box_12 (by decide) k2 k1) (fun c_12 => ?_) (fun c_12 => ?_)
    · refine rk_of (fun _ _ _ _ _ k => lv_iconst (v := 1) hx hb dX3_box_15 rfl (lv_goto (tgt := 20) hx hb dX3_box_16 (by decide) k)) ?_
      exact hJ20 1 ls (lv_sub hl [0, 1] rfl)
    · refine rk_of (fun _ _ _ _ _ k => lv_iconst (v := 0) hx hb dX3_box_19 rfl k) ?_
      exact hJ20 0 ls (lv_sub hl [0, 1] rfl)
theorem hd_X3_lettingsIn : yX3_lettingsIn.cls ≠ "java/lang/invoke/MethodHandle" ∧ yX3_lettingsIn.cls ≠ "java/lang/invoke/VarHandle" ∧ (parseMethodDescriptor yX3_lettingsIn.desc).map (fun d => d.parameters.length) = some 1 := by decide +kernel
noncomputable def fn_X3_lettingsIn_4 (K : zm_K) (p0 : zm_R) (p1 : Int32) : Nat → Int32 → Int32 → zm_M (Int32)
  | 0, _, _ => zm_fl
  | n + 1, x2, x3 =>
    zm_bnd (zm_getR p0 20 0) fun v6 =>
    zm_bnd (zm_aldI .int v6 1) fun v10 =>
    if v10 ≤ x3 then
      zm_ret x2
    else
      zm_bnd (zm_bnd (zm_is p0 20) fun _ => fn_X3_isOver K p0 x3) fun v17 =>
      zm_bnd (α := Int32) (
          if v17 = 0 then
            zm_bnd (zm_bnd (zm_is p0 20) fun _ => fn_X3_ofLetting K p0 x3 0) fun v26 =>
            if v26 = p1 then
              zm_ret 1
            else
              zm_ret 0
          else
            zm_ret 0
        ) fun b38 =>
      fn_X3_lettingsIn_4 K p0 p1 n (x2 + b38) (x3 + 1)
noncomputable def fn_X3_lettingsIn (K : zm_K) (a0 : zm_R) (a1 : Int32) : zm_M Int32 :=
  zm_bnd (α := Int32) (fn_X3_lettingsIn_4 K a0 a1 zm_N 0 0) fun b46 =>
  zm_ret b46
theorem rf_X3_lettingsIn_4 (H : zm_H Ω K) (C : zm_C p l R s m args meth c Ω lw_all cX3_lettingsIn yX3_lettingsIn.cls yX3_lettingsIn.name 4 4 128 (Option.some Jvm.ClassFile.FieldType.int)) (hX : zm_XO p l e R s m args below meth c Ω n0 k0 (zm_QFs below args s Ω n0 k0 zm_tvI)) (p0 : zm_R) (p1 : Int32) : ∀ (n : Nat) (x2 : Int32) (x3 : Int32) (J : (Int32) → zm_M Int32) (ls : Array Slot), lv_has ls 4 [(0, va_rf p0), (1, .int p1), (2, .int x2), (3, .int x3)] → (∀ (b : Int32) (ls : Array Slot), lv_has ls 4 [(2, .int b)] → zm_RK p l e R s m args below meth c Ω n0 k0 (zm_QFs below args s Ω n0 k0 zm_tvI) (zm_ret b) J (F0 m 46 ls [])) → zm_RK p l e R s m args below meth c Ω n0 k0 (zm_QFs below args s Ω n0 k0 zm_tvI) (fn_X3_lettingsIn_4 K p0 p1 n x2 x3) J (F0 m 4 ls []) := by
  have hx := C.1
  have hb := C.2.1
  intro n
  induction n with
  | zero => intro x2 x3 J ls hl hJ; exact rk_fl
  | succ n ih =>
    intro x2 x3 J ls hl hJ
    unfold fn_X3_lettingsIn_4
    refine rk_of (fun _ _ _ _ _ k => lv_iload_n hx hb dX3_lettingsIn_4 rfl (lv_at hl 3 rfl) (lr_aload_n hx hb dX3_lettingsIn_5 rfl (lv_at hl 0 rfl) k)) ?_
    refine rk_get zm_rdR_eq C (hc_X3 H) (k := 0) (Nat.le_of_ble_eq_true rfl) in_X3 q2577 (fun _ h => h) dX3_lettingsIn_6 (fun v6 => ?_)
    refine rk_of (fun _ _ _ _ _ k => lv_iconst (v := 1) hx hb dX3_lettingsIn_9 rfl k) ?_
    refine rk_iald C dX3_lettingsIn_10 (fun v10 => ?_)
    refine rk_ite (fun _ _ _ _ _ k1 k2 => lv_icmp_ge (tgt := 46) hx hb dX3_lettingsIn_11 (by decide) k1 k2) (fun c_11 => ?_) (fun c_11 => ?_)
    · exact hJ x2 ls (lv_sub hl [2] rfl)
    · refine rk_of (fun _ _ _ _ _ k => lv_iload_n hx hb dX3_lettingsIn_14 rfl (lv_at hl 2 rfl) (lr_aload_n hx hb dX3_lettingsIn_15 rfl (lv_at hl 0 rfl) (lv_iload_n hx hb dX3_lettingsIn_16 rfl (lv_at hl 3 rfl) k))) ?_
      refine rk_callI hX (cl_V (rest := [.int x2]) (av := [.int x3]) C (hc_X3 H) (ct_X3_isOver H p0 x3) (lw_V q2703 q2705 qs53 q112 q2706) ⟨rfl, hd_X3_isOver⟩ ⟨(Nat.le_of_ble_eq_true rfl), (Nat.le_of_ble_eq_true rfl)⟩ rfl hl.1 rfl (zw_le (zw_I zw_nil) (Nat.le_of_ble_eq_true rfl)) dX3_lettingsIn_17) (fun v17 => ?_)
      refine rk_join (β := Int32) (fun (b38 : Int32) ls => lv_has ls 4 [(0, va_rf p0), (1, .int p1), (3, .int x3)]) (fun (b38 : Int32) ls => F0 m 38 ls [.int b38, .int x2]) (fun b38 ls hl => ?_) (fun hJ38 => ?_)
      · refine rk_ofs (fun _ _ _ _ _ k => lv_iadd hx hb dX3_lettingsIn_38 (lr_istore_n hx hb dX3_lettingsIn_39 rfl hl (Nat.le_of_ble_eq_true rfl) [0, 1, 2] rfl ⟨trivial, ⟨rfl, ⟨trivial, trivial⟩⟩⟩ k)) (fun ls hl => ?_)
        refine rk_ofs (fun _ _ _ _ _ k => lr_iinc (v := x3 + 1) hx hb dX3_lettingsIn_40 hl (k := 3) rfl rfl (Nat.le_of_ble_eq_true rfl) [0, 1, 2] rfl ⟨rfl, ⟨trivial, ⟨trivial, trivial⟩⟩⟩ k) (fun ls hl => ?_)
        refine rk_of (fun _ _ _ _ _ k => lv_goto (tgt := 4) hx hb dX3_lettingsIn_43 (by decide) k) ?_
        exact ih (x2 + b38) (x3 + 1) J ls (lv_sub hl [2, 3, 1, 0] rfl) hJ
      · refine rk_ite (fun _ _ _ _ _ k1 k2 => lv_if_ne (tgt := 37) hx hb dX3_lettingsIn_20 (by decide) k2 k1) (fun c_20 => ?_) (fun c_20 => ?_)
        · refine rk_of (fun _ _ _ _ _ k => lr_aload_n hx hb dX3_lettingsIn_23 rfl (lv_at hl 0 rfl) (lv_iload_n hx hb dX3_lettingsIn_24 rfl (lv_at hl 3 rfl) (lv_iconst (v := 0) hx hb dX3_lettingsIn_25 rfl k))) ?_
          refine rk_callI hX (cl_V (rest := [.int x2]) (av := [.int x3, .int 0]) C (hc_X3 H) (ct_X3_ofLetting H p0 x3 0) (lw_V q2707 q2709 qs54 q112 q2710) ⟨rfl, hd_X3_ofLetting⟩ ⟨(Nat.le_of_ble_eq_true rfl), (Nat.le_of_ble_eq_true rfl)⟩ rfl hl.1 rfl (zw_le (zw_I zw_nil) (Nat.le_of_ble_eq_true rfl)) dX3_lettingsIn_26) (fun v26 => ?_)
          refine rk_ite (fun _ _ _ _ _ k1 k2 => lv_iload_n hx hb dX3_lettingsIn_29 rfl (lv_at hl 1 rfl) (lv_icmp_ne (tgt := 37) hx hb dX3_lettingsIn_30 (by decide) k2 k1)) (fun c_30 => ?_) (fun c_30 => ?_)
          · refine rk_of (fun _ _ _ _ _ k => lv_iconst (v := 1) hx hb dX3_lettingsIn_33 rfl (lv_goto (tgt := 38) hx hb dX3_lettingsIn_34 (by decide) k)) ?_
            exact hJ38 1 ls (lv_sub hl [0, 1, 3] rfl)
          · refine rk_of (fun _ _ _ _ _ k => lv_iconst (v := 0) hx hb dX3_lettingsIn_37 rfl k) ?_
            exact hJ38 0 ls (lv_sub hl [0, 1, 3] rfl)
        · refine rk_of (fun _ _ _ _ _ k => lv_iconst (v := 0) hx hb dX3_lettingsIn_37 rfl k) ?_
          exact hJ38 0 ls (lv_sub hl [0, 1, 3] rfl)
theorem ct_X3_lettingsIn {l : Launch} {Ω : zm_W} {K : zm_K} (H : zm_H Ω K) (a0 : zm_R) (a1 : Int32) : zm_Ct l Ω yX3_lettingsIn (ws_ yX3_lettingsIn cX3_lettingsIn 4 (Option.some Jvm.ClassFile.FieldType.int)) 4 128 [va_rf a0, .int a1] zm_tvI (fn_X3_lettingsIn K a0 a1) := by
  refine zm_ct H.1 (by decide +kernel) (zl_le (zl_R (zl_I zl_nil)) (Nat.le_of_ble_eq_true rfl)) ?_
  intro p e R s m args below meth c n0 k0 C hX ls hl
  have hx := C.1
  have hb := C.2.1
  simp only [zg_I, zg_R, zg_nil] at hl
  have hl : lv_has ls 4 [(0, va_rf a0), (1, .int a1)] := hl
  refine rk_rf ?_
  unfold fn_X3_lettingsIn
  refine rk_ofs (fun _ _ _ _ _ k => lv_iconst (v := 0) hx hb dX3_lettingsIn_0 rfl (lr_istore_n hx hb dX3_lettingsIn_1 rfl hl (Nat.le_of_ble_eq_true rfl) [0, 1] rfl ⟨trivial, ⟨rfl, trivial⟩⟩ k)) (fun ls hl => ?_)
  refine rk_ofs (fun _ _ _ _ _ k => lv_iconst (v := 0) hx hb dX3_lettingsIn_2 rfl (lr_istore_n hx hb dX3_lettingsIn_3 rfl hl (Nat.le_of_ble_eq_true rfl) [0, 1, 2] rfl ⟨rfl, ⟨trivial, ⟨trivial, trivial⟩⟩⟩ k)) (fun ls hl => ?_)
  refine rk_join (β := Int32) (fun (b46 : Int32) ls => lv_has ls 4 [(2, .int b46)]) (fun (b46 : Int32) ls => F0 m 46 ls []) (fun b46 ls hl => ?_) (fun hJ46 => ?_)
  · refine rk_of (fun _ _ _ _ _ k => lv_iload_n hx hb dX3_lettingsIn_46 rfl (lv_at hl 0 rfl) k) ?_
    exact rk_top (rf_iret C rfl dX3_lettingsIn_47)
  · exact rf_X3_lettingsIn_4 H C hX a0 a1 zm_N 0 0 _ ls (lv_sub hl [2, 3, 1, 0] rfl) hJ46
theorem hd_X3_isLet : yX3_isLet.cls ≠ "java/lang/invoke/MethodHandle" ∧ yX3_isLet.cls ≠ "java/lang/invoke/VarHandle" ∧ (parseMethodDescriptor yX3_isLet.desc).map (fun d => d.parameters.length) = some 2 := by decide +kernel
noncomputable def fn_X3_isLet (K : zm_K) (a0 : zm_R) (a1 : Int32) (a2 : Int32) : zm_M Int32 :=
  zm_bnd (fn_X3_isMinute K a2) fun v1 =>
  if v1 = 0 then
    zm_ret 0
  else
    zm_bnd (zm_bnd (zm_is a0 20) fun _ => fn_X3_letAt K a0 a1 a2) fun v10 =>
    if v10 < 0 then
      zm_ret 0
    else
      zm_ret 1
theorem ct_X3_isLet {l : Launch} {Ω : zm_W} {K : zm_K} (H : zm_H Ω K) (a0 : zm_R) (a1 : Int32) (a2 : Int32) : zm_Ct l Ω yX3_isLet (ws_ yX3_isLet cX3_isLet 3 (Option.some Jvm.ClassFile.FieldType.boolean)) 6 177 [va_rf a0, .int a1, .int a2] zm_tvI (fn_X3_isLet K a0 a1 a2) := by
  refine zm_ct H.1 (by decide +kernel) (zl_le (zl_R (zl_I (zl_I zl_nil))) (Nat.le_of_ble_eq_true rfl)) ?_
  intro p e R s m args below meth c n0 k0 C hX ls hl
  have hx := C.1
  have hb := C.2.1
  simp only [zg_I, zg_R, zg_nil] at hl
  have hl : lv_has ls 3 [(0, va_rf a0), (1, .int a1), (2, .int a2)] := hl
  refine rk_rf ?_
  unfold fn_X3_isLet
  refine rk_of (fun _ _ _ _ _ k => lv_iload_n hx hb dX3_isLet_0 rfl (lv_at hl 2 rfl) k) ?_
  refine rk_callI hX (cl_S (rest := []) C (ct_X3_isMinute H a2) (lw_S q2692 q2693 q112 q2694) hd_X3_isMinute ⟨(Nat.le_of_ble_eq_true rfl), (Nat.le_of_ble_eq_true rfl)⟩ rfl hl.1 rfl (zw_le zw_nil (Nat.le_of_ble_eq_true rfl)) dX3_isLet_1) (fun v1 => ?_)
  refine rk_ite (fun _ _ _ _ _ k1 k2 => lv_if_eq (tgt := 20) hx hb dX3_isLet_4 (by decide) k1 k2) (fun c_4 => ?_) (fun c_4 => ?_)
  · refine rk_of (fun _ _ _ _ _ k => lv_iconst (v := 0) hx hb dX3_isLet_20 rfl k) ?_
    exact rk_top (rf_iret C rfl dX3_isLet_21)
  · refine rk_of (fun _ _ _ _ _ k => lr_aload_n hx hb dX3_isLet_7 rfl (lv_at hl 0 rfl) (lv_iload_n hx hb dX3_isLet_8 rfl (lv_at hl 1 rfl) (lv_iload_n hx hb dX3_isLet_9 rfl (lv_at hl 2 rfl) k))) ?_
    refine rk_callI hX (cl_V (rest := []) (av := [.int a1, .int a2]) C (hc_X3 H) (ct_X3_letAt H a0 a1 a2) (lw_V q2783 q2785 qs64 q112 q2786) ⟨rfl, hd_X3_letAt⟩ ⟨(Nat.le_of_ble_eq_true rfl), (Nat.le_of_ble_eq_true rfl)⟩ rfl hl.1 rfl (zw_le zw_nil (Nat.le_of_ble_eq_true rfl)) dX3_isLet_10) (fun v10 => ?_)
    refine rk_ite (fun _ _ _ _ _ k1 k2 => lv_if_lt (tgt := 20) hx hb dX3_isLet_13 (by decide) k1 k2) (fun c_13 => ?_) (fun c_13 => ?_)
    · refine rk_of (fun _ _ _ _ _ k => lv_iconst (v := 0) hx hb dX3_isLet_20 rfl k) ?_
      exact rk_top (rf_iret C rfl dX3_isLet_21)
    · refine rk_of (fun _ _ _ _ _ k => lv_iconst (v := 1) hx hb dX3_isLet_16 rfl (lv_goto (tgt := 21) hx hb dX3_isLet_17 (by decide) k)) ?_
      exact rk_top (rf_iret C rfl dX3_isLet_21)
theorem hd_X3_spans : yX3_spans.cls ≠ "java/lang/invoke/MethodHandle" ∧ yX3_spans.cls ≠ "java/lang/invoke/VarHandle" ∧ (parseMethodDescriptor yX3_spans.desc).map (fun d => d.parameters.length) = some 3 := by decide +kernel
noncomputable def fn_X3_spans_36 (K : zm_K) (p0 : zm_R) (p1 : Int32) (p2 : Int32) (p3 : Int32) (p4 : Int32) (p6 : Int32) (p7 : Int32) : Nat → Int32 → zm_M (Int32)
  | 0, _ => zm_fl
  | n + 1, x5 =>
    if 600 ≤ x5 then
      zm_ret x5
    else
      zm_bnd (zm_bnd (zm_is p0 20) fun _ => fn_X3_isLet K p0 p1 x5) fun v48 =>
      zm_bnd (zm_bnd (zm_is p0 20) fun _ => fn_X3_isLet K p0 p1 p6) fun v55 =>
      if v48 = v55 then
        fn_X3_spans_36 K p0 p1 p2 p3 p4 p6 p7 n (x5 + 1)
      else
        zm_ret x5
noncomputable def fn_X3_spans_6 (K : zm_K) (p0 : zm_R) (p1 : Int32) (p2 : Int32) (p3 : Int32) : Nat → Int32 → Int32 → zm_M (Int32)
  | 0, _, _ => zm_fl
  | n + 1, x4, x5 =>
    if 600 ≤ x5 then
      zm_ret x4
    else
      zm_bnd (zm_bnd (zm_is p0 20) fun _ => fn_X3_isLet K p0 p1 x5) fun v22 =>
      zm_bnd (α := Int32) (
          if v22 = p2 then
            zm_ret 1
          else
            zm_ret 0
        ) fun b34 =>
      zm_bnd (α := Int32) (fn_X3_spans_36 K p0 p1 p2 p3 x4 x5 b34 zm_N x5) fun b67 =>
      if b34 = 0 then
        fn_X3_spans_6 K p0 p1 p2 p3 n x4 b67
      else
        zm_bnd (zm_getR p0 20 13) fun v73 =>
        zm_bnd (α := Int32) (
            if x4 = p3 then
              zm_ret x5
            else
              zm_bnd (zm_getR p0 20 13) fun v89 =>
              zm_bnd (zm_aldI .int v89 0) fun v93 =>
              zm_ret v93
          ) fun b94 =>
        zm_bnd (zm_astI K .int v73 0 b94) fun _ =>
        zm_bnd (zm_getR p0 20 13) fun v96 =>
        zm_bnd (α := Int32) (
            if x4 = p3 then
              zm_ret b67
            else
              zm_bnd (zm_getR p0 20 13) fun v112 =>
              zm_bnd (zm_aldI .int v112 1) fun v116 =>
              zm_ret v116
          ) fun b117 =>
        zm_bnd (zm_astI K .int v96 1 b117) fun _ =>
        zm_bnd (α := Int32) (
            if x4 = 0 then
              zm_ret 0
            else
              zm_bnd (zm_getI p0 20 14) fun v129 =>
              zm_ret v129
          ) fun b132 =>
        zm_bnd (fn_X3_greater K b132 (b67 - x5)) fun v137 =>
        zm_bnd (zm_putF K p0 20 14 (.int v137)) fun _ =>
        fn_X3_spans_6 K p0 p1 p2 p3 n (x4 + 1) b67
noncomputable def fn_X3_spans (K : zm_K) (a0 : zm_R) (a1 : Int32) (a2 : Int32) (a3 : Int32) : zm_M Int32 :=
  zm_bnd (α := Int32) (fn_X3_spans_6 K a0 a1 a2 a3 zm_N 0 0) fun b149 =>
  zm_ret b149
theorem rf_X3_spans_36 (H : zm_H Ω K) (C : zm_C p l R s m args meth c Ω lw_all cX3_spans yX3_spans.cls yX3_spans.name 8 7 199 (Option.some Jvm.ClassFile.FieldType.int)) (hX : zm_XO p l e R s m args below meth c Ω n0 k0 (zm_QFs below args s Ω n0 k0 zm_tvI)) (p0 : zm_R) (p1 : Int32) (p2 : Int32) (p3 : Int32) (p4 : Int32) (p6 : Int32) (p7 : Int32) : ∀ (n : Nat) (x5 : Int32) (J : (Int32) → zm_M Int32) (ls : Array Slot), lv_has ls 8 [(0, va_rf p0), (1, .int p1), (2, .int p2), (3, .int p3), (4, .int p4), (6, .int p6), (7, .int p7), (5, .int x5)] → (∀ (b : Int32) (ls : Array Slot), lv_has ls 8 [(0, va_rf p0), (1, .int p1), (2, .int p2), (3, .int p3), (4, .int p4), (6, .int p6), (7, .int p7), (5, .int b)] → zm_RK p l e R s m args below meth c Ω n0 k0 (zm_QFs below args s Ω n0 k0 zm_tvI) (zm_ret b) J (F0 m 67 ls [])) → zm_RK p l e R s m args below meth c Ω n0 k0 (zm_QFs below args s Ω n0 k0 zm_tvI) (fn_X3_spans_36 K p0 p1 p2 p3 p4 p6 p7 n x5) J (F0 m 36 ls []) := by
  have hx := C.1
  have hb := C.2.1
  intro n
  induction n with
  | zero => intro x5 J ls hl hJ; exact rk_fl
  | succ n ih =>
    intro x5 J ls hl hJ
    unfold fn_X3_spans_36
    refine rk_ite (fun _ _ _ _ _ k1 k2 => lv_iload hx hb dX3_spans_36 (lv_at hl 7 rfl) (lv_sipush (v := 600) hx hb dX3_spans_38 rfl (lv_icmp_ge (tgt := 67) hx hb dX3_spans_41 (by decide) k1 k2))) (fun c_41 => ?_) (fun c_41 => ?_)
    · exact hJ x5 ls (lv_sub hl [0, 1, 2, 3, 4, 5, 6, 7] rfl)
    · refine rk_of (fun _ _ _ _ _ k => lr_aload_n hx hb dX3_spans_44 rfl (lv_at hl 0 rfl) (lv_iload_n hx hb dX3_spans_45 rfl (lv_at hl 1 rfl) (lv_iload hx hb dX3_spans_46 (lv_at hl 7 rfl) k))) ?_
      refine rk_callI hX (cl_V (rest := []) (av := [.int p1, .int x5]) C (hc_X3 H) (ct_X3_isLet H p0 p1 x5) (lw_V q2882 q2884 qs78 q112 q2885) ⟨rfl, hd_X3_isLet⟩ ⟨(Nat.le_of_ble_eq_true rfl), (Nat.le_of_ble_eq_true rfl)⟩ rfl hl.1 rfl (zw_le zw_nil (Nat.le_of_ble_eq_true rfl)) dX3_spans_48) (fun v48 => ?_)
      refine rk_of (fun _ _ _ _ _ k => lr_aload_n hx hb dX3_spans_51 rfl (lv_at hl 0 rfl) (lv_iload_n hx hb dX3_spans_52 rfl (lv_at hl 1 rfl) (lv_iload hx hb dX3_spans_53 (lv_at hl 5 rfl) k))) ?_
      refine rk_callI hX (cl_V (rest := [.int v48]) (av := [.int p1, .int p6]) C (hc_X3 H) (ct_X3_isLet H p0 p1 p6) (lw_V q2882 q2884 qs78 q112 q2885) ⟨rfl, hd_X3_isLet⟩ ⟨(Nat.le_of_ble_eq_true rfl), (Nat.le_of_ble_eq_true rfl)⟩ rfl hl.1 rfl (zw_le (zw_I zw_nil) (Nat.le_of_ble_eq_true rfl)) dX3_spans_55) (fun v55 => ?_)
      refine rk_ite (fun _ _ _ _ _ k1 k2 => lv_icmp_ne (tgt := 67) hx hb dX3_spans_58 (by decide) k2 k1) (fun c_58 => ?_) (fun c_58 => ?_)
      · refine rk_ofs (fun _ _ _ _ _ k => lr_iinc (v := x5 + 1) hx hb dX3_spans_61 hl (k := 7) rfl rfl (Nat.le_of_ble_eq_true rfl) [0, 1, 2, 3, 4, 5, 6] rfl ⟨trivial, ⟨trivial, ⟨trivial, ⟨trivial, ⟨rfl, ⟨trivial, ⟨trivial, trivial⟩⟩⟩⟩⟩⟩⟩ k) (fun ls hl => ?_)
        refine rk_of (fun _ _ _ _ _ k => lv_goto (tgt := 36) hx hb dX3_spans_64 (by decide) k) ?_
        exact ih (x5 + 1) J ls (lv_sub hl [1, 2, 3, 4, 5, 6, 7, 0] rfl) hJ
      · exact hJ x5 ls (lv_sub hl [0, 1, 2, 3, 4, 5, 6, 7] rfl)
theorem rf_X3_spans_6 (H : zm_H Ω K) (C : zm_C p l R s m args meth c Ω lw_all cX3_spans yX3_spans.cls yX3_spans.name 8 7 199 (Option.some Jvm.ClassFile.FieldType.int)) (hX : zm_XO p l e R s m args below meth c Ω n0 k0 (zm_QFs below args s Ω n0 k0 zm_tvI)) (p0 : zm_R) (p1 : Int32) (p2 : Int32) (p3 : Int32) : ∀ (n : Nat) (x4 : Int32) (x5 : Int32) (J : (Int32) → zm_M Int32) (ls : Array Slot), lv_has ls 8 [(0, va_rf p0), (1, .int p1), (2, .int p2), (3, .int p3), (4, .int x4), (5, .int x5)] → (∀ (b : Int32) (ls : Array Slot), lv_has ls 8 [(4, .int b)] → zm_RK p l e R s m args below meth c Ω n0 k0 (zm_QFs below args s Ω n0 k0 zm_tvI) (zm_ret b) J (F0 m 149 ls [])) → zm_RK p l e R s m args below meth c Ω n0 k0 (zm_QFs below args s Ω n0 k0 zm_tvI) (fn_X3_spans_6 K p0 p1 p2 p3 n x4 x5) J (F0 m 6 ls []) := by
  have hx := C.1
  have hb := C.2.1
  intro n
  induction n with
  | zero => intro x4 x5 J ls hl hJ; exact rk_fl
  | succ n ih =>
    intro x4 x5 J ls hl hJ
    unfold fn_X3_spans_6
    refine rk_ite (fun _ _ _ _ _ k1 k2 => lv_iload hx hb dX3_spans_6 (lv_at hl 5 rfl) (lv_sipush (v := 600) hx hb dX3_spans_8 rfl (lv_icmp_ge (tgt := 149) hx hb dX3_spans_11 (by decide) k1 k2))) (fun c_11 => ?_) (fun c_11 => ?_)
    · exact hJ x4 ls (lv_sub hl [4] rfl)
    · refine rk_ofs (fun _ _ _ _ _ k => lv_iload hx hb dX3_spans_14 (lv_at hl 5 rfl) (lr_istore hx hb dX3_spans_16 hl (Nat.le_of_ble_eq_true rfl) [0, 1, 2, 3, 4, 5] rfl ⟨trivial, ⟨trivial, ⟨trivial, ⟨trivial, ⟨trivial, ⟨rfl, trivial⟩⟩⟩⟩⟩⟩ k)) (fun ls hl => ?_)
      refine rk_of (fun _ _ _ _ _ k => lr_aload_n hx hb dX3_spans_18 rfl (lv_at hl 1 rfl) (lv_iload_n hx hb dX3_spans_19 rfl (lv_at hl 2 rfl) (lv_iload hx hb dX3_spans_20 (lv_at hl 6 rfl) k))) ?_
      refine rk_callI hX (cl_V (rest := []) (av := [.int p1, .int x5]) C (hc_X3 H) (ct_X3_isLet H p0 p1 x5) (lw_V q2882 q2884 qs78 q112 q2885) ⟨rfl, hd_X3_isLet⟩ ⟨(Nat.le_of_ble_eq_true rfl), (Nat.le_of_ble_eq_true rfl)⟩ rfl hl.1 rfl (zw_le zw_nil (Nat.le_of_ble_eq_true rfl)) dX3_spans_22) (fun v22 => ?_)
      refine rk_of (fun _ _ _ _ _ k => lv_iload_n hx hb dX3_spans_25 rfl (lv_at hl 3 rfl) k) ?_
      refine rk_join (β := Int32) (fun (b34 : Int32) ls => lv_has ls 8 [(0, va_rf p0), (1, .int p1), (2, .int p2), (3, .int p3), (4, .int x4), (5, .int x5), (6, .int x5)]) (fun (b34 : Int32) ls => F0 m 34 ls [.int b34]) (fun b34 ls hl => ?_) (fun hJ34 => ?_)
      · refine rk_ofs (fun _ _ _ _ _ k => lr_istore hx hb dX3_spans_34 hl (Nat.le_of_ble_eq_true rfl) [0, 1, 2, 3, 4, 5, 6] rfl ⟨trivial, ⟨trivial, ⟨trivial, ⟨trivial, ⟨trivial, ⟨trivial, ⟨rfl, trivial⟩⟩⟩⟩⟩⟩⟩ k) (fun ls hl => ?_)
        refine rk_join (β := Int32) (fun (b67 : Int32) ls => lv_has ls 8 [(0, va_rf p0), (1, .int p1), (2, .int p2), (3, .int p3), (4, .int x4), (6, .int x5), (7, .int b34), (5, .int b67)]) (fun (b67 : Int32) ls => F0 m 67 ls []) (fun b67 ls hl => ?_) (fun hJ67 => ?_)
        · refine rk_ite (fun _ _ _ _ _ k1 k2 => lv_iload hx hb dX3_spans_67 (lv_at hl 6 rfl) (lv_if_eq (tgt := 146) hx hb dX3_spans_69 (by decide) k1 k2)) (fun c_69 => ?_) (fun c_69 => ?_)
          · refine rk_of (fun _ _ _ _ _ k => lv_goto (tgt := 6) hx hb dX3_spans_146 (by decide) k) ?_
            exact ih x4 b67 J ls (lv_sub hl [0, 1, 2, 3, 4, 7] rfl) hJ
          · refine rk_of (fun _ _ _ _ _ k => lr_aload_n hx hb dX3_spans_72 rfl (lv_at hl 0 rfl) k) ?_
            refine rk_get zm_rdR_eq C (hc_X3 H) (k := 13) (Nat.le_of_ble_eq_true rfl) in_X3 q2590 (fun _ h => h) dX3_spans_73 (fun v73 => ?_)
            refine rk_of (fun _ _ _ _ _ k => lv_iconst (v := 0) hx hb dX3_spans_76 rfl (lv_iload hx hb dX3_spans_77 (lv_at hl 4 rfl) (lv_iload_n hx hb dX3_spans_79 rfl (lv_at hl 3 rfl) k))) ?_
            refine rk_join (β := Int32) (fun (b94 : Int32) ls => lv_has ls 8 [(0, va_rf p0), (1, .int p1), (2, .int p2), (3, .int p3), (4, .int x4), (5, .int b67), (6, .int x5)]) (fun (b94 : Int32) ls => F0 m 94 ls [.int b94, .int 0, va_rf v73]) (fun b94 ls hl => ?_) (fun hJ94 => ?_)
            · refine rk_iast C H.2.2.1 dX3_spans_94 ?_
              refine rk_of (fun _ _ _ _ _ k => lr_aload_n hx hb dX3_spans_95 rfl (lv_at hl 0 rfl) k) ?_
              refine rk_get zm_rdR_eq C (hc_X3 H) (k := 13) (Nat.le_of_ble_eq_true rfl) in_X3 q2590 (fun _ h => h) dX3_spans_96 (fun v96 => ?_)
              refine rk_of (fun _ _ _ _ _ k => lv_iconst (v := 1) hx hb dX3_spans_99 rfl (lv_iload hx hb dX3_spans_100 (lv_at hl 4 rfl) (lv_iload_n hx hb dX3_spans_102 rfl (lv_at hl 3 rfl) k))) ?_
              refine rk_join (β := Int32) (fun (b117 : Int32) ls => lv_has ls 8 [(0, va_rf p0), (1, .int p1), (2, .int p2), (3, .int p3), (4, .int x4), (5, .int b67), (6, .int x5)]) (fun (b117 : Int32) ls => F0 m 117 ls [.int b117, .int 1, va_rf v96]) (fun b117 ls hl => ?_) (fun hJ117 => ?_)
              · refine rk_iast C H.2.2.1 dX3_spans_117 ?_
                refine rk_of (fun _ _ _ _ _ k => lr_aload_n hx hb dX3_spans_118 rfl (lv_at hl 0 rfl) (lv_iload hx hb dX3_spans_119 (lv_at hl 4 rfl) k)) ?_
                refine rk_join (β := Int32) (fun (b132 : Int32) ls => lv_has ls 8 [(0, va_rf p0), (1, .int p1), (2, .int p2), (3, .int p3), (4, .int x4), (5, .int b67), (6, .int x5)]) (fun (b132 : Int32) ls => F0 m 132 ls [.int b132, va_rf p0]) (fun b132 ls hl => ?_) (fun hJ132 => ?_)
                · refine rk_of (fun _ _ _ _ _ k => lv_iload hx hb dX3_spans_132 (lv_at hl 5 rfl) (lv_iload hx hb dX3_spans_134 (lv_at hl 6 rfl) (lv_isub hx hb dX3_spans_136 k))) ?_
                  refine rk_callI hX (cl_S (rest := [va_rf p0]) C (ct_X3_greater H b132 (b67 - x5)) (lw_S q2756 q2757 q112 q2758) hd_X3_greater ⟨(Nat.le_of_ble_eq_true rfl), (Nat.le_of_ble_eq_true rfl)⟩ rfl hl.1 rfl (zw_le (zw_R zw_nil) (Nat.le_of_ble_eq_true rfl)) dX3_spans_137) (fun v137 => ?_)
                  refine rk_put C H.2.2.1 (hc_X3 H) (k := 14) (Nat.le_of_ble_eq_true rfl) in_X3 (ty0 := tyX3) tyX3_ok nmX3 q2591 (fun _ h => h) (Or.inl rfl) rfl rfl dX3_spans_140 ?_
                  refine rk_ofs (fun _ _ _ _ _ k => lr_iinc (v := x4 + 1) hx hb dX3_spans_143 hl (k := 4) rfl rfl (Nat.le_of_ble_eq_true rfl) [0, 1, 2, 3, 5] rfl ⟨trivial, ⟨trivial, ⟨trivial, ⟨rfl, ⟨trivial, trivial⟩⟩⟩⟩⟩ k) (fun ls hl => ?_)
                  refine rk_of (fun _ _ _ _ _ k => lv_goto (tgt := 6) hx hb dX3_spans_146 (by decide) k) ?_
                  exact ih (x4 + 1) b67 J ls (lv_sub hl [1, 2, 3, 4, 0, 5] rfl) hJ
                · refine rk_ite (fun _ _ _ _ _ k1 k2 => lv_if_ne (tgt := 128) hx hb dX3_spans_121 (by decide) k2 k1) (fun c_121 => ?_) (fun c_121 => ?_)
                  · refine rk_of (fun _ _ _ _ _ k => lv_iconst (v := 0) hx hb dX3_spans_124 rfl (lv_goto (tgt := 132) hx hb dX3_spans_125 (by decide) k)) ?_
                    exact hJ132 0 ls (lv_sub hl [0, 1, 2, 3, 4, 5, 6] rfl)
                  · refine rk_of (fun _ _ _ _ _ k => lr_aload_n hx hb dX3_spans_128 rfl (lv_at hl 0 rfl) k) ?_
                    refine rk_get zm_rdI_eq C (hc_X3 H) (k := 14) (Nat.le_of_ble_eq_true rfl) in_X3 q2591 (fun _ h => h) dX3_spans_129 (fun v129 => ?_)
                    exact hJ132 v129 ls (lv_sub hl [0, 1, 2, 3, 4, 5, 6] rfl)
              · refine rk_ite (fun _ _ _ _ _ k1 k2 => lv_icmp_ne (tgt := 111) hx hb dX3_spans_103 (by decide) k2 k1) (fun c_103 => ?_) (fun c_103 => ?_)
                · refine rk_of (fun _ _ _ _ _ k => lv_iload hx hb dX3_spans_106 (lv_at hl 5 rfl) (lv_goto (tgt := 117) hx hb dX3_spans_108 (by decide) k)) ?_
                  exact hJ117 b67 ls (lv_sub hl [0, 1, 2, 3, 4, 5, 6] rfl)
                · refine rk_of (fun _ _ _ _ _ k => lr_aload_n hx hb dX3_spans_111 rfl (lv_at hl 0 rfl) k) ?_
                  refine rk_get zm_rdR_eq C (hc_X3 H) (k := 13) (Nat.le_of_ble_eq_true rfl) in_X3 q2590 (fun _ h => h) dX3_spans_112 (fun v112 => ?_)
                  refine rk_of (fun _ _ _ _ _ k => lv_iconst (v := 1) hx hb dX3_spans_115 rfl k) ?_
                  refine rk_iald C dX3_spans_116 (fun v116 => ?_)
                  exact hJ117 v116 ls (lv_sub hl [0, 1, 2, 3, 4, 5, 6] rfl)
            · refine rk_ite (fun _ _ _ _ _ k1 k2 => lv_icmp_ne (tgt := 88) hx hb dX3_spans_80 (by decide) k2 k1) (fun c_80 => ?_) (fun c_80 => ?_)
              · refine rk_of (fun _ _ _ _ _ k => lv_iload hx hb dX3_spans_83 (lv_at hl 5 rfl) (lv_goto (tgt := 94) hx hb dX3_spans_85 (by decide) k)) ?_
                exact hJ94 x5 ls (lv_sub hl [0, 1, 2, 3, 4, 7, 5] rfl)
              · refine rk_of (fun _ _ _ _ _ k => lr_aload_n hx hb dX3_spans_88 rfl (lv_at hl 0 rfl) k) ?_
                refine rk_get zm_rdR_eq C (hc_X3 H) (k := 13) (Nat.le_of_ble_eq_true rfl) in_X3 q2590 (fun _ h => h) dX3_spans_89 (fun v89 => ?_)
                refine rk_of (fun _ _ _ _ _ k => lv_iconst (v := 0) hx hb dX3_spans_92 rfl k) ?_
                refine rk_iald C dX3_spans_93 (fun v93 => ?_)
                exact hJ94 v93 ls (lv_sub hl [0, 1, 2, 3, 4, 7, 5] rfl)
        · exact rf_X3_spans_36 H C hX p0 p1 p2 p3 x4 x5 b34 zm_N x5 _ ls (lv_sub hl [1, 2, 3, 4, 5, 7, 0, 6] rfl) hJ67
      · refine rk_ite (fun _ _ _ _ _ k1 k2 => lv_icmp_ne (tgt := 33) hx hb dX3_spans_26 (by decide) k2 k1) (fun c_26 => ?_) (fun c_26 => ?_)
        · refine rk_of (fun _ _ _ _ _ k => lv_iconst (v := 1) hx hb dX3_spans_29 rfl (lv_goto (tgt := 34) hx hb dX3_spans_30 (by decide) k)) ?_
          exact hJ34 1 ls (lv_sub hl [1, 2, 3, 4, 5, 6, 0] rfl)
        · refine rk_of (fun _ _ _ _ _ k => lv_iconst (v := 0) hx hb dX3_spans_33 rfl k) ?_
          exact hJ34 0 ls (lv_sub hl [1, 2, 3, 4, 5, 6, 0] rfl)
theorem ct_X3_spans {l : Launch} {Ω : zm_W} {K : zm_K} (H : zm_H Ω K) (a0 : zm_R) (a1 : Int32) (a2 : Int32) (a3 : Int32) : zm_Ct l Ω yX3_spans (ws_ yX3_spans cX3_spans 8 (Option.some Jvm.ClassFile.FieldType.int)) 7 199 [va_rf a0, .int a1, .int a2, .int a3] zm_tvI (fn_X3_spans K a0 a1 a2 a3) := by
  refine zm_ct H.1 (by decide +kernel) (zl_le (zl_R (zl_I (zl_I (zl_I zl_nil)))) (Nat.le_of_ble_eq_true rfl)) ?_
  intro p e R s m args below meth c n0 k0 C hX ls hl
  have hx := C.1
  have hb := C.2.1
  simp only [zg_I, zg_R, zg_nil] at hl
  have hl : lv_has ls 8 [(0, va_rf a0), (1, .int a1), (2, .int a2), (3, .int a3)] := hl
  refine rk_rf ?_
  unfold fn_X3_spans
  refine rk_ofs (fun _ _ _ _ _ k => lv_iconst (v := 0) hx hb dX3_spans_0 rfl (lr_istore hx hb dX3_spans_1 hl (Nat.le_of_ble_eq_true rfl) [0, 1, 2, 3] rfl ⟨trivial, ⟨trivial, ⟨trivial, ⟨rfl, trivial⟩⟩⟩⟩ k)) (fun ls hl => ?_)
  refine rk_ofs (fun _ _ _ _ _ k => lv_iconst (v := 0) hx hb dX3_spans_3 rfl (lr_istore hx hb dX3_spans_4 hl (Nat.le_of_ble_eq_true rfl) [0, 1, 2, 3, 4] rfl ⟨rfl, ⟨trivial, ⟨trivial, ⟨trivial, ⟨trivial, trivial⟩⟩⟩⟩⟩ k)) (fun ls hl => ?_)
  refine rk_join (β := Int32) (fun (b149 : Int32) ls => lv_has ls 8 [(4, .int b149)]) (fun (b149 : Int32) ls => F0 m 149 ls []) (fun b149 ls hl => ?_) (fun hJ149 => ?_)
  · refine rk_of (fun _ _ _ _ _ k => lv_iload hx hb dX3_spans_149 (lv_at hl 0 rfl) k) ?_
    exact rk_top (rf_iret C rfl dX3_spans_151)
  · exact rf_X3_spans_6 H C hX a0 a1 a2 a3 zm_N 0 0 _ ls (lv_sub hl [2, 3, 4, 5, 1, 0] rfl) hJ149
theorem hd_X3_longestGap : yX3_longestGap.cls ≠ "java/lang/invoke/MethodHandle" ∧ yX3_longestGap.cls ≠ "java/lang/invoke/VarHandle" ∧ (parseMethodDescriptor yX3_longestGap.desc).map (fun d => d.parameters.length) = some 1 := by decide +kernel
noncomputable def fn_X3_longestGap (K : zm_K) (a0 : zm_R) (a1 : Int32) : zm_M Int32 :=
  zm_bnd (zm_bnd (zm_is a0 20) fun _ => fn_X3_spans K a0 a1 0 0) fun v4 =>
  if v4 = 0 then
    zm_ret 0
  else
    zm_bnd (zm_getI a0 20 14) fun v15 =>
    zm_ret v15
theorem ct_X3_longestGap {l : Launch} {Ω : zm_W} {K : zm_K} (H : zm_H Ω K) (a0 : zm_R) (a1 : Int32) : zm_Ct l Ω yX3_longestGap (ws_ yX3_longestGap cX3_longestGap 2 (Option.some Jvm.ClassFile.FieldType.int)) 8 226 [va_rf a0, .int a1] zm_tvI (fn_X3_longestGap K a0 a1) := by
  refine zm_ct H.1 (by decide +kernel) (zl_le (zl_R (zl_I zl_nil)) (Nat.le_of_ble_eq_true rfl)) ?_
  intro p e R s m args below meth c n0 k0 C hX ls hl
  have hx := C.1
  have hb := C.2.1
  simp only [zg_I, zg_R, zg_nil] at hl
  have hl : lv_has ls 2 [(0, va_rf a0), (1, .int a1)] := hl
  refine rk_rf ?_
  unfold fn_X3_longestGap
  refine rk_of (fun _ _ _ _ _ k => lr_aload_n hx hb dX3_longestGap_0 rfl (lv_at hl 0 rfl) (lv_iload_n hx hb dX3_longestGap_1 rfl (lv_at hl 1 rfl) (lv_iconst (v := 0) hx hb dX3_longestGap_2 rfl (lv_iconst (v := 0) hx hb dX3_longestGap_3 rfl k)))) ?_
  refine rk_callI hX (cl_V (rest := []) (av := [.int a1, .int 0, .int 0]) C (hc_X3 H) (ct_X3_spans H a0 a1 0 0) (lw_V q2878 q2880 qs77 q112 q2881) ⟨rfl, hd_X3_spans⟩ ⟨(Nat.le_of_ble_eq_true rfl), (Nat.le_of_ble_eq_true rfl)⟩ rfl hl.1 rfl (zw_le zw_nil (Nat.le_of_ble_eq_true rfl)) dX3_longestGap_4) (fun v4 => ?_)
  refine rk_ite (fun _ _ _ _ _ k1 k2 => lv_if_ne (tgt := 14) hx hb dX3_longestGap_7 (by decide) k2 k1) (fun c_7 => ?_) (fun c_7 => ?_)
  · refine rk_of (fun _ _ _ _ _ k => lv_iconst (v := 0) hx hb dX3_longestGap_10 rfl (lv_goto (tgt := 18) hx hb dX3_longestGap_11 (by decide) k)) ?_
    exact rk_top (rf_iret C rfl dX3_longestGap_18)
  · refine rk_of (fun _ _ _ _ _ k => lr_aload_n hx hb dX3_longestGap_14 rfl (lv_at hl 0 rfl) k) ?_
    refine rk_get zm_rdI_eq C (hc_X3 H) (k := 14) (Nat.le_of_ble_eq_true rfl) in_X3 q2591 (fun _ h => h) dX3_longestGap_15 (fun v15 => ?_)
    exact rk_top (rf_iret C rfl dX3_longestGap_18)
theorem hd_X3_coinsIn : yX3_coinsIn.cls ≠ "java/lang/invoke/MethodHandle" ∧ yX3_coinsIn.cls ≠ "java/lang/invoke/VarHandle" ∧ (parseMethodDescriptor yX3_coinsIn.desc).map (fun d => d.parameters.length) = some 1 := by decide +kernel
noncomputable def fn_X3_coinsIn_4 (K : zm_K) (p0 : zm_R) (p1 : Int32) : Nat → Int32 → Int32 → zm_M (Int32)
  | 0, _, _ => zm_fl
  | n + 1, x2, x3 =>
    zm_bnd (zm_getR p0 20 0) fun v6 =>
    zm_bnd (zm_aldI .int v6 1) fun v10 =>
    if v10 ≤ x3 then
      zm_ret x2
    else
      zm_bnd (zm_bnd (zm_is p0 20) fun _ => fn_X3_ofLetting K p0 x3 0) fun v18 =>
      zm_bnd (α := Int32) (
          if v18 = p1 then
            zm_bnd (zm_bnd (zm_is p0 20) fun _ => fn_X3_coinsOf K p0 x3) fun v27 =>
            zm_ret v27
          else
            zm_ret 0
        ) fun b34 =>
      fn_X3_coinsIn_4 K p0 p1 n (x2 + b34) (x3 + 1)
noncomputable def fn_X3_coinsIn (K : zm_K) (a0 : zm_R) (a1 : Int32) : zm_M Int32 :=
  zm_bnd (α := Int32) (fn_X3_coinsIn_4 K a0 a1 zm_N 0 0) fun b42 =>
  zm_ret b42
theorem rf_X3_coinsIn_4 (H : zm_H Ω K) (C : zm_C p l R s m args meth c Ω lw_all cX3_coinsIn yX3_coinsIn.cls yX3_coinsIn.name 4 5 149 (Option.some Jvm.ClassFile.FieldType.int)) (hX : zm_XO p l e R s m args below meth c Ω n0 k0 (zm_QFs below args s Ω n0 k0 zm_tvI)) (p0 : zm_R) (p1 : Int32) : ∀ (n : Nat) (x2 : Int32) (x3 : Int32) (J : (Int32) → zm_M Int32) (ls : Array Slot), lv_has ls 4 [(0, va_rf p0), (1, .int p1), (2, .int x2), (3, .int x3)] → (∀ (b : Int32) (ls : Array Slot), lv_has ls 4 [(2, .int b)] → zm_RK p l e R s m args below meth c Ω n0 k0 (zm_QFs below args s Ω n0 k0 zm_tvI) (zm_ret b) J (F0 m 42 ls [])) → zm_RK p l e R s m args below meth c Ω n0 k0 (zm_QFs below args s Ω n0 k0 zm_tvI) (fn_X3_coinsIn_4 K p0 p1 n x2 x3) J (F0 m 4 ls []) := by
  have hx := C.1
  have hb := C.2.1
  intro n
  induction n with
  | zero => intro x2 x3 J ls hl hJ; exact rk_fl
  | succ n ih =>
    intro x2 x3 J ls hl hJ
    unfold fn_X3_coinsIn_4
    refine rk_of (fun _ _ _ _ _ k => lv_iload_n hx hb dX3_coinsIn_4 rfl (lv_at hl 3 rfl) (lr_aload_n hx hb dX3_coinsIn_5 rfl (lv_at hl 0 rfl) k)) ?_
    refine rk_get zm_rdR_eq C (hc_X3 H) (k := 0) (Nat.le_of_ble_eq_true rfl) in_X3 q2577 (fun _ h => h) dX3_coinsIn_6 (fun v6 => ?_)
    refine rk_of (fun _ _ _ _ _ k => lv_iconst (v := 1) hx hb dX3_coinsIn_9 rfl k) ?_
    refine rk_iald C dX3_coinsIn_10 (fun v10 => ?_)
    refine rk_ite (fun _ _ _ _ _ k1 k2 => lv_icmp_ge (tgt := 42) hx hb dX3_coinsIn_11 (by decide) k1 k2) (fun c_11 => ?_) (fun c_11 => ?_)
    · exact hJ x2 ls (lv_sub hl [2] rfl)
    · refine rk_of (fun _ _ _ _ _ k => lv_iload_n hx hb dX3_coinsIn_14 rfl (lv_at hl 2 rfl) (lr_aload_n hx hb dX3_coinsIn_15 rfl (lv_at hl 0 rfl) (lv_iload_n hx hb dX3_coinsIn_16 rfl (lv_at hl 3 rfl) (lv_iconst (v := 0) hx hb dX3_coinsIn_17 rfl k)))) ?_
      refine rk_callI hX (cl_V (rest := [.int x2]) (av := [.int x3, .int 0]) C (hc_X3 H) (ct_X3_ofLetting H p0 x3 0) (lw_V q2707 q2709 qs54 q112 q2710) ⟨rfl, hd_X3_ofLetting⟩ ⟨(Nat.le_of_ble_eq_true rfl), (Nat.le_of_ble_eq_true rfl)⟩ rfl hl.1 rfl (zw_le (zw_I zw_nil) (Nat.le_of_ble_eq_true rfl)) dX3_coinsIn_18) (fun v18 => ?_)
      refine rk_of (fun _ _ _ _ _ k => lv_iload_n hx hb dX3_coinsIn_21 rfl (lv_at hl 1 rfl) k) ?_
      refine rk_join (β := Int32) (fun (b34 : Int32) ls => lv_has ls 4 [(0, va_rf p0), (1, .int p1), (3, .int x3)]) (fun (b34 : Int32) ls => F0 m 34 ls [.int b34, .int x2]) (fun b34 ls hl => ?_) (fun hJ34 => ?_)
      · refine rk_ofs (fun _ _ _ _ _ k => lv_iadd hx hb dX3_coinsIn_34 (lr_istore_n hx hb dX3_coinsIn_35 rfl hl (Nat.le_of_ble_eq_true rfl) [0, 1, 2] rfl ⟨trivial, ⟨rfl, ⟨trivial, trivial⟩⟩⟩ k)) (fun ls hl => ?_)
        refine rk_ofs (fun _ _ _ _ _ k => lr_iinc (v := x3 + 1) hx hb dX3_coinsIn_36 hl (k := 3) rfl rfl (Nat.le_of_ble_eq_true rfl) [0, 1, 2] rfl ⟨rfl, ⟨trivial, ⟨trivial, trivial⟩⟩⟩ k) (fun ls hl => ?_)
        refine rk_of (fun _ _ _ _ _ k => lv_goto (tgt := 4) hx hb dX3_coinsIn_39 (by decide) k) ?_
        exact ih (x2 + b34) (x3 + 1) J ls (lv_sub hl [2, 3, 1, 0] rfl) hJ
      · refine rk_ite (fun _ _ _ _ _ k1 k2 => lv_icmp_ne (tgt := 33) hx hb dX3_coinsIn_22 (by decide) k2 k1) (fun c_22 => ?_) (fun c_22 => ?_)
        · refine rk_of (fun _ _ _ _ _ k => lr_aload_n hx hb dX3_coinsIn_25 rfl (lv_at hl 0 rfl) (lv_iload_n hx hb dX3_coinsIn_26 rfl (lv_at hl 3 rfl) k)) ?_
          refine rk_callI hX (cl_V (rest := [.int x2]) (av := [.int x3]) C (hc_X3 H) (ct_X3_coinsOf H p0 x3) (lw_V q2734 q2736 qs59 q112 q2737) ⟨rfl, hd_X3_coinsOf⟩ ⟨(Nat.le_of_ble_eq_true rfl), (Nat.le_of_ble_eq_true rfl)⟩ rfl hl.1 rfl (zw_le (zw_I zw_nil) (Nat.le_of_ble_eq_true rfl)) dX3_coinsIn_27) (fun v27 => ?_)
          refine rk_of (fun _ _ _ _ _ k => lv_goto (tgt := 34) hx hb dX3_coinsIn_30 (by decide) k) ?_
          exact hJ34 v27 ls (lv_sub hl [0, 1, 3] rfl)
        · refine rk_of (fun _ _ _ _ _ k => lv_iconst (v := 0) hx hb dX3_coinsIn_33 rfl k) ?_
          exact hJ34 0 ls (lv_sub hl [0, 1, 3] rfl)
theorem ct_X3_coinsIn {l : Launch} {Ω : zm_W} {K : zm_K} (H : zm_H Ω K) (a0 : zm_R) (a1 : Int32) : zm_Ct l Ω yX3_coinsIn (ws_ yX3_coinsIn cX3_coinsIn 4 (Option.some Jvm.ClassFile.FieldType.int)) 5 149 [va_rf a0, .int a1] zm_tvI (fn_X3_coinsIn K a0 a1) := by
  refine zm_ct H.1 (by decide +kernel) (zl_le (zl_R (zl_I zl_nil)) (Nat.le_of_ble_eq_true rfl)) ?_
  intro p e R s m args below meth c n0 k0 C hX ls hl
  have hx := C.1
  have hb := C.2.1
  simp only [zg_I, zg_R, zg_nil] at hl
  have hl : lv_has ls 4 [(0, va_rf a0), (1, .int a1)] := hl
  refine rk_rf ?_
  unfold fn_X3_coinsIn
  refine rk_ofs (fun _ _ _ _ _ k => lv_iconst (v := 0) hx hb dX3_coinsIn_0 rfl (lr_istore_n hx hb dX3_coinsIn_1 rfl hl (Nat.le_of_ble_eq_true rfl) [0, 1] rfl ⟨trivial, ⟨rfl, trivial⟩⟩ k)) (fun ls hl => ?_)
  refine rk_ofs (fun _ _ _ _ _ k => lv_iconst (v := 0) hx hb dX3_coinsIn_2 rfl (lr_istore_n hx hb dX3_coinsIn_3 rfl hl (Nat.le_of_ble_eq_true rfl) [0, 1, 2] rfl ⟨rfl, ⟨trivial, ⟨trivial, trivial⟩⟩⟩ k)) (fun ls hl => ?_)
  refine rk_join (β := Int32) (fun (b42 : Int32) ls => lv_has ls 4 [(2, .int b42)]) (fun (b42 : Int32) ls => F0 m 42 ls []) (fun b42 ls hl => ?_) (fun hJ42 => ?_)
  · refine rk_of (fun _ _ _ _ _ k => lv_iload_n hx hb dX3_coinsIn_42 rfl (lv_at hl 0 rfl) k) ?_
    exact rk_top (rf_iret C rfl dX3_coinsIn_43)
  · exact rf_X3_coinsIn_4 H C hX a0 a1 zm_N 0 0 _ ls (lv_sub hl [2, 3, 1, 0] rfl) hJ42
theorem hd_X3_boxOf : yX3_boxOf.cls ≠ "java/lang/invoke/MethodHandle" ∧ yX3_boxOf.cls ≠ "java/lang/invoke/VarHandle" ∧ (parseMethodDescriptor yX3_boxOf.desc).map (fun d => d.parameters.length) = some 2 := by decide +kernel
noncomputable def fn_X3_boxOf (K : zm_K) (a0 : zm_R) (a1 : Int32) (a2 : Int32) : zm_M Int32 :=
  zm_bnd (zm_bnd (zm_is a0 20) fun _ => fn_X3_isBox K a0 a1) fun v3 =>
  zm_bnd (α := Int32) (
      if v3 = 0 then
        zm_ret 1
      else
        zm_ret 0
    ) fun b14 =>
  zm_bnd (zm_bnd (zm_is a0 20) fun _ => fn_X3_isThrown K a0 b14 1) fun v15 =>
  if v15 = 0 then
    zm_bnd (fn_X3_isIn K a2 0 6) fun v26 =>
    zm_bnd (α := Int32) (
        if v26 = 0 then
          zm_ret 1
        else
          zm_ret 0
      ) fun b37 =>
    zm_bnd (zm_bnd (zm_is a0 20) fun _ => fn_X3_isThrown K a0 b37 2) fun v38 =>
    if v38 = 0 then
      if a2 = 0 then
        zm_bnd (zm_getR a0 20 0) fun v85 =>
        zm_bnd (zm_aldI .int v85 (6 + a1)) fun v92 =>
        zm_ret v92
      else
        if a2 = 1 then
          zm_bnd (zm_bnd (zm_is a0 20) fun _ => fn_X3_lettingsIn K a0 a1) fun v96 =>
          zm_ret v96
        else
          if a2 = 2 then
            zm_bnd (zm_bnd (zm_is a0 20) fun _ => fn_X3_minutesLet K a0 a1) fun v102 =>
            zm_ret v102
          else
            if a2 = 3 then
              zm_bnd (α := Int32) (
                  if a2 = 3 then
                    zm_ret 1
                  else
                    zm_ret 0
                ) fun b118 =>
              zm_bnd (zm_bnd (zm_is a0 20) fun _ => fn_X3_spans K a0 a1 b118 0) fun v119 =>
              zm_ret v119
            else
              if a2 = 4 then
                zm_bnd (α := Int32) (
                    if a2 = 3 then
                      zm_ret 1
                    else
                      zm_ret 0
                  ) fun b118 =>
                zm_bnd (zm_bnd (zm_is a0 20) fun _ => fn_X3_spans K a0 a1 b118 0) fun v119 =>
                zm_ret v119
              else
                if a2 = 5 then
                  zm_bnd (zm_bnd (zm_is a0 20) fun _ => fn_X3_longestGap K a0 a1) fun v125 =>
                  zm_ret v125
                else
                  zm_bnd (zm_bnd (zm_is a0 20) fun _ => fn_X3_coinsIn K a0 a1) fun v131 =>
                  zm_ret v131
    else
      zm_ret 0
  else
    zm_ret 0
theorem ct_X3_boxOf {l : Launch} {Ω : zm_W} {K : zm_K} (H : zm_H Ω K) (a0 : zm_R) (a1 : Int32) (a2 : Int32) : zm_Ct l Ω yX3_boxOf (ws_ yX3_boxOf cX3_boxOf 3 (Option.some Jvm.ClassFile.FieldType.int)) 9 247 [va_rf a0, .int a1, .int a2] zm_tvI (fn_X3_boxOf K a0 a1 a2) := by
  refine zm_ct H.1 (by decide +kernel) (zl_le (zl_R (zl_I (zl_I zl_nil))) (Nat.le_of_ble_eq_true rfl)) ?_
  intro p e R s m args below meth c n0 k0 C hX ls hl
  have hx := C.1
  have hb := C.2.1
  simp only [zg_I, zg_R, zg_nil] at hl
  have hl : lv_has ls 3 [(0, va_rf a0), (1, .int a1), (2, .int a2)] := hl
  refine rk_rf ?_
  unfold fn_X3_boxOf
  refine rk_of (fun _ _ _ _ _ k => lr_aload_n hx hb dX3_boxOf_0 rfl (lv_at hl 0 rfl) (lr_aload_n hx hb dX3_boxOf_1 rfl (lv_at hl 0 rfl) (lv_iload_n hx hb dX3_boxOf_2 rfl (lv_at hl 1 rfl) k))) ?_
  refine rk_callI hX (cl_V (rest := [va_rf a0]) (av := [.int a1]) C (hc_X3 H) (ct_X3_isBox H a0 a1) (lw_V q2685 q2687 qs50 q112 q2688) ⟨rfl, hd_X3_isBox⟩ ⟨(Nat.le_of_ble_eq_true rfl), (Nat.le_of_ble_eq_true rfl)⟩ rfl hl.1 rfl (zw_le (zw_R zw_nil) (Nat.le_of_ble_eq_true rfl)) dX3_boxOf_3) (fun v3 => ?_)
  refine rk_join (β := Int32) (fun (b14 : Int32) ls => lv_has ls 3 [(0, va_rf a0), (1, .int a1), (2, .int a2)]) (fun (b14 : Int32) ls => F0 m 14 ls [.int b14, va_rf a0]) (fun b14 ls hl => ?_) (fun hJ14 => ?_)
  · refine rk_of (fun _ _ _ _ _ k => lv_iconst (v := 1) hx hb dX3_boxOf_14 rfl k) ?_
    refine rk_callI hX (cl_V (rest := []) (av := [.int b14, .int 1]) C (hc_X3 H) (ct_X3_isThrown H a0 b14 1) (lw_V q2665 q2667 qs46 q112 q2668) ⟨rfl, hd_X3_isThrown⟩ ⟨(Nat.le_of_ble_eq_true rfl), (Nat.le_of_ble_eq_true rfl)⟩ rfl hl.1 rfl (zw_le zw_nil (Nat.le_of_ble_eq_true rfl)) dX3_boxOf_15) (fun v15 => ?_)
    refine rk_ite (fun _ _ _ _ _ k1 k2 => lv_if_ne (tgt := 44) hx hb dX3_boxOf_18 (by decide) k2 k1) (fun c_18 => ?_) (fun c_18 => ?_)
    · refine rk_of (fun _ _ _ _ _ k => lr_aload_n hx hb dX3_boxOf_21 rfl (lv_at hl 0 rfl) (lv_iload_n hx hb dX3_boxOf_22 rfl (lv_at hl 2 rfl) (lv_iconst (v := 0) hx hb dX3_boxOf_23 rfl (lv_bipush (v := 6) hx hb dX3_boxOf_24 rfl k)))) ?_
      refine rk_callI hX (cl_S (rest := [va_rf a0]) C (ct_X3_isIn H a2 0 6) (lw_S q2662 q2663 q112 q2664) hd_X3_isIn ⟨(Nat.le_of_ble_eq_true rfl), (Nat.le_of_ble_eq_true rfl)⟩ rfl hl.1 rfl (zw_le (zw_R zw_nil) (Nat.le_of_ble_eq_true rfl)) dX3_boxOf_26) (fun v26 => ?_)
      refine rk_join (β := Int32) (fun (b37 : Int32) ls => lv_has ls 3 [(0, va_rf a0), (1, .int a1), (2, .int a2)]) (fun (b37 : Int32) ls => F0 m 37 ls [.int b37, va_rf a0]) (fun b37 ls hl => ?_) (fun hJ37 => ?_)
      · refine rk_of (fun _ _ _ _ _ k => lv_iconst (v := 2) hx hb dX3_boxOf_37 rfl k) ?_
        refine rk_callI hX (cl_V (rest := []) (av := [.int b37, .int 2]) C (hc_X3 H) (ct_X3_isThrown H a0 b37 2) (lw_V q2665 q2667 qs46 q112 q2668) ⟨rfl, hd_X3_isThrown⟩ ⟨(Nat.le_of_ble_eq_true rfl), (Nat.le_of_ble_eq_true rfl)⟩ rfl hl.1 rfl (zw_le zw_nil (Nat.le_of_ble_eq_true rfl)) dX3_boxOf_38) (fun v38 => ?_)
        refine rk_ite (fun _ _ _ _ _ k1 k2 => lv_if_eq (tgt := 46) hx hb dX3_boxOf_41 (by decide) k1 k2) (fun c_41 => ?_) (fun c_41 => ?_)
        · refine rk_of (fun _ _ _ _ _ k => lv_iload_n hx hb dX3_boxOf_46 rfl (lv_at hl 2 rfl) k) ?_
          refine rk_case (fun c_47_0 => ?_) (fun c_47_0 => ?_)
          · refine rk_of (fun _ _ _ _ _ k => by rw [c_47_0]; exact lv_tableIn (off := 37) (tgt := 84) hx hb dX3_boxOf_47 (by decide) (by decide) rfl (by decide) k) ?_
            refine rk_of (fun _ _ _ _ _ k => lr_aload_n hx hb dX3_boxOf_84 rfl (lv_at hl 0 rfl) k) ?_
            refine rk_get zm_rdR_eq C (hc_X3 H) (k := 0) (Nat.le_of_ble_eq_true rfl) in_X3 q2577 (fun _ h => h) dX3_boxOf_85 (fun v85 => ?_)
            refine rk_of (fun _ _ _ _ _ k => lv_bipush (v := 6) hx hb dX3_boxOf_88 rfl (lv_iload_n hx hb dX3_boxOf_90 rfl (lv_at hl 1 rfl) (lv_iadd hx hb dX3_boxOf_91 k))) ?_
            refine rk_iald C dX3_boxOf_92 (fun v92 => ?_)
            exact rk_top (rf_iret C rfl dX3_boxOf_93)
          · refine rk_case (fun c_47_1 => ?_) (fun c_47_1 => ?_)
            · refine rk_of (fun _ _ _ _ _ k => by rw [c_47_1]; exact lv_tableIn (off := 47) (tgt := 94) hx hb dX3_boxOf_47 (by decide) (by decide) rfl (by decide) k) ?_
              refine rk_of (fun _ _ _ _ _ k => lr_aload_n hx hb dX3_boxOf_94 rfl (lv_at hl 0 rfl) (lv_iload_n hx hb dX3_boxOf_95 rfl (lv_at hl 1 rfl) k)) ?_
              refine rk_callI hX (cl_V (rest := []) (av := [.int a1]) C (hc_X3 H) (ct_X3_lettingsIn H a0 a1) (lw_V q2866 q2868 qs74 q112 q2869) ⟨rfl, hd_X3_lettingsIn⟩ ⟨(Nat.le_of_ble_eq_true rfl), (Nat.le_of_ble_eq_true rfl)⟩ rfl hl.1 rfl (zw_le zw_nil (Nat.le_of_ble_eq_true rfl)) dX3_boxOf_96) (fun v96 => ?_)
              exact rk_top (rf_iret C rfl dX3_boxOf_99)
            · refine rk_case (fun c_47_2 => ?_) (fun c_47_2 => ?_)
              · refine rk_of (fun _ _ _ _ _ k => by rw [c_47_2]; exact lv_tableIn (off := 53) (tgt := 100) hx hb dX3_boxOf_47 (by decide) (by decide) rfl (by decide) k) ?_
                refine rk_of (fun _ _ _ _ _ k => lr_aload_n hx hb dX3_boxOf_100 rfl (lv_at hl 0 rfl) (lv_iload_n hx hb dX3_boxOf_101 rfl (lv_at hl 1 rfl) k)) ?_
                refine rk_callI hX (cl_V (rest := []) (av := [.int a1]) C (hc_X3 H) (ct_X3_minutesLet H a0 a1) (lw_V q2870 q2872 qs75 q112 q2873) ⟨rfl, hd_X3_minutesLet⟩ ⟨(Nat.le_of_ble_eq_true rfl), (Nat.le_of_ble_eq_true rfl)⟩ rfl hl.1 rfl (zw_le zw_nil (Nat.le_of_ble_eq_true rfl)) dX3_boxOf_102) (fun v102 => ?_)
                exact rk_top (rf_iret C rfl dX3_boxOf_105)
              · refine rk_case (fun c_47_3 => ?_) (fun c_47_3 => ?_)
                · refine rk_of (fun _ _ _ _ _ k => by rw [c_47_3]; exact lv_tableIn (off := 59) (tgt := 106) hx hb dX3_boxOf_47 (by decide) (by decide) rfl (by decide) k) ?_
                  refine rk_of (fun _ _ _ _ _ k => lr_aload_n hx hb dX3_boxOf_106 rfl (lv_at hl 0 rfl) (lv_iload_n hx hb dX3_boxOf_107 rfl (lv_at hl 1 rfl) (lv_iload_n hx hb dX3_boxOf_108 rfl (lv_at hl 2 rfl) (lv_iconst (v := 3) hx hb dX3_boxOf_109 rfl k)))) ?_
                  refine rk_join (β := Int32) (fun (b118 : Int32) ls => lv_has ls 3 []) (fun (b118 : Int32) ls => F0 m 118 ls [.int b118, .int a1, va_rf a0]) (fun b118 ls hl => ?_) (fun hJ118 => ?_)
                  · refine rk_of (fun _ _ _ _ _ k => lv_iconst (v := 0) hx hb dX3_boxOf_118 rfl k) ?_
                    refine rk_callI hX (cl_V (rest := []) (av := [.int a1, .int b118, .int 0]) C (hc_X3 H) (ct_X3_spans H a0 a1 b118 0) (lw_V q2878 q2880 qs77 q112 q2881) ⟨rfl, hd_X3_spans⟩ ⟨(Nat.le_of_ble_eq_true rfl), (Nat.le_of_ble_eq_true rfl)⟩ rfl hl.1 rfl (zw_le zw_nil (Nat.le_of_ble_eq_true rfl)) dX3_boxOf_119) (fun v119 => ?_)
                    exact rk_top (rf_iret C rfl dX3_boxOf_122)
                  · refine rk_ite (fun _ _ _ _ _ k1 k2 => lv_icmp_ne (tgt := 117) hx hb dX3_boxOf_110 (by decide) k2 k1) (fun c_110 => ?_) (fun c_110 => ?_)
                    · refine rk_of (fun _ _ _ _ _ k => lv_iconst (v := 1) hx hb dX3_boxOf_113 rfl (lv_goto (tgt := 118) hx hb dX3_boxOf_114 (by decide) k)) ?_
                      exact hJ118 1 ls (lv_sub hl [] rfl)
                    · refine rk_of (fun _ _ _ _ _ k => lv_iconst (v := 0) hx hb dX3_boxOf_117 rfl k) ?_
                      exact hJ118 0 ls (lv_sub hl [] rfl)
                · refine rk_case (fun c_47_4 => ?_) (fun c_47_4 => ?_)
                  · refine rk_of (fun _ _ _ _ _ k => by rw [c_47_4]; exact lv_tableIn (off := 59) (tgt := 106) hx hb dX3_boxOf_47 (by decide) (by decide) rfl (by decide) k) ?_
                    refine rk_of (fun _ _ _ _ _ k => lr_aload_n hx hb dX3_boxOf_106 rfl (lv_at hl 0 rfl) (lv_iload_n hx hb dX3_boxOf_107 rfl (lv_at hl 1 rfl) (lv_iload_n hx hb dX3_boxOf_108 rfl (lv_at hl 2 rfl) (lv_iconst (v := 3) hx hb dX3_boxOf_109 rfl k)))) ?_
                    refine rk_join (β := Int32) (fun (b118 : Int32) ls => lv_has ls 3 []) (fun (b118 : Int32) ls => F0 m 118 ls [.int b118, .int a1, va_rf a0]) (fun b118 ls hl => ?_) (fun hJ118 => ?_)
                    · refine rk_of (fun _ _ _ _ _ k => lv_iconst (v := 0) hx hb dX3_boxOf_118 rfl k) ?_
                      refine rk_callI hX (cl_V (rest := []) (av := [.int a1, .int b118, .int 0]) C (hc_X3 H) (ct_X3_spans H a0 a1 b118 0) (lw_V q2878 q2880 qs77 q112 q2881) ⟨rfl, hd_X3_spans⟩ ⟨(Nat.le_of_ble_eq_true rfl), (Nat.le_of_ble_eq_true rfl)⟩ rfl hl.1 rfl (zw_le zw_nil (Nat.le_of_ble_eq_true rfl)) dX3_boxOf_119) (fun v119 => ?_)
                      exact rk_top (rf_iret C rfl dX3_boxOf_122)
                    · refine rk_ite (fun _ _ _ _ _ k1 k2 => lv_icmp_ne (tgt := 117) hx hb dX3_boxOf_110 (by decide) k2 k1) (fun c_110 => ?_) (fun c_110 => ?_)
                      · refine rk_of (fun _ _ _ _ _ k => lv_iconst (v := 1) hx hb dX3_boxOf_113 rfl (lv_goto (tgt := 118) hx hb dX3_boxOf_114 (by decide) k)) ?_
                        exact hJ118 1 ls (lv_sub hl [] rfl)
                      · refine rk_of (fun _ _ _ _ _ k => lv_iconst (v := 0) hx hb dX3_boxOf_117 rfl k) ?_
                        exact hJ118 0 ls (lv_sub hl [] rfl)
                  · refine rk_case (fun c_47_5 => ?_) (fun c_47_5 => ?_)
                    · refine rk_of (fun _ _ _ _ _ k => by rw [c_47_5]; exact lv_tableIn (off := 76) (tgt := 123) hx hb dX3_boxOf_47 (by decide) (by decide) rfl (by decide) k) ?_
                      refine rk_of (fun _ _ _ _ _ k => lr_aload_n hx hb dX3_boxOf_123 rfl (lv_at hl 0 rfl) (lv_iload_n hx hb dX3_boxOf_124 rfl (lv_at hl 1 rfl) k)) ?_
                      refine rk_callI hX (cl_V (rest := []) (av := [.int a1]) C (hc_X3 H) (ct_X3_longestGap H a0 a1) (lw_V q2886 q2888 qs79 q112 q2889) ⟨rfl, hd_X3_longestGap⟩ ⟨(Nat.le_of_ble_eq_true rfl), (Nat.le_of_ble_eq_true rfl)⟩ rfl hl.1 rfl (zw_le zw_nil (Nat.le_of_ble_eq_true rfl)) dX3_boxOf_125) (fun v125 => ?_)
                      exact rk_top (rf_iret C rfl dX3_boxOf_128)
                    · have q_0 : (a2).toInt ≠ 0 := fun q => c_47_0 (zs_eq q rfl)
                      have q_1 : (a2).toInt ≠ 1 := fun q => c_47_1 (zs_eq q rfl)
                      have q_2 : (a2).toInt ≠ 2 := fun q => c_47_2 (zs_eq q rfl)
                      have q_3 : (a2).toInt ≠ 3 := fun q => c_47_3 (zs_eq q rfl)
                      have q_4 : (a2).toInt ≠ 4 := fun q => c_47_4 (zs_eq q rfl)
                      have q_5 : (a2).toInt ≠ 5 := fun q => c_47_5 (zs_eq q rfl)
                      refine rk_of (fun _ _ _ _ _ k => lv_tableOut (tgt := 129) hx hb dX3_boxOf_47 (by omega) (by decide) k) ?_
                      refine rk_of (fun _ _ _ _ _ k => lr_aload_n hx hb dX3_boxOf_129 rfl (lv_at hl 0 rfl) (lv_iload_n hx hb dX3_boxOf_130 rfl (lv_at hl 1 rfl) k)) ?_
                      refine rk_callI hX (cl_V (rest := []) (av := [.int a1]) C (hc_X3 H) (ct_X3_coinsIn H a0 a1) (lw_V q2890 q2892 qs80 q112 q2893) ⟨rfl, hd_X3_coinsIn⟩ ⟨(Nat.le_of_ble_eq_true rfl), (Nat.le_of_ble_eq_true rfl)⟩ rfl hl.1 rfl (zw_le zw_nil (Nat.le_of_ble_eq_true rfl)) dX3_boxOf_131) (fun v131 => ?_)
                      exact rk_top (rf_iret C rfl dX3_boxOf_134)
        · refine rk_of (fun _ _ _ _ _ k => lv_iconst (v := 0) hx hb dX3_boxOf_44 rfl k) ?_
          exact rk_top (rf_iret C rfl dX3_boxOf_45)
      · refine rk_ite (fun _ _ _ _ _ k1 k2 => lv_if_ne (tgt := 36) hx hb dX3_boxOf_29 (by decide) k2 k1) (fun c_29 => ?_) (fun c_29 => ?_)
        · refine rk_of (fun _ _ _ _ _ k => lv_iconst (v := 1) hx hb dX3_boxOf_32 rfl (lv_goto (tgt := 37) hx hb dX3_boxOf_33 (by decide) k)) ?_
          exact hJ37 1 ls (lv_sub hl [0, 1, 2] rfl)
        · refine rk_of (fun _ _ _ _ _ k => lv_iconst (v := 0) hx hb dX3_boxOf_36 rfl k) ?_
          exact hJ37 0 ls (lv_sub hl [0, 1, 2] rfl)
    · refine rk_of (fun _ _ _ _ _ k => lv_iconst (v := 0) hx hb dX3_boxOf_44 rfl k) ?_
      exact rk_top (rf_iret C rfl dX3_boxOf_45)
  · refine rk_ite (fun _ _ _ _ _ k1 k2 => lv_if_ne (tgt := 13) hx hb dX3_boxOf_6 (by decide) k2 k1) (fun c_6 => ?_) (fun c_6 => ?_)
    · refine rk_of (fun _ _ _ _ _ k => lv_iconst (v := 1) hx hb dX3_boxOf_9 rfl (lv_goto (tgt := 14) hx hb dX3_boxOf_10 (by decide) k)) ?_
      exact hJ14 1 ls (lv_sub hl [0, 1, 2] rfl)
    · refine rk_of (fun _ _ _ _ _ k => lv_iconst (v := 0) hx hb dX3_boxOf_13 rfl k) ?_
      exact hJ14 0 ls (lv_sub hl [0, 1, 2] rfl)
theorem hd_X3_wishesOver : yX3_wishesOver.cls ≠ "java/lang/invoke/MethodHandle" ∧ yX3_wishesOver.cls ≠ "java/lang/invoke/VarHandle" ∧ (parseMethodDescriptor yX3_wishesOver.desc).map (fun d => d.parameters.length) = some 1 := by decide +kernel
noncomputable def fn_X3_wishesOver_4 (K : zm_K) (p0 : zm_R) (p1 : Int32) : Nat → Int32 → Int32 → zm_M (Int32)
  | 0, _, _ => zm_fl
  | n + 1, x2, x3 =>
    zm_bnd (zm_getR p0 20 0) fun v6 =>
    zm_bnd (zm_aldI .int v6 2) fun v10 =>
    if v10 ≤ x3 then
      zm_ret x2
    else
      zm_bnd (zm_bnd (zm_is p0 20) fun _ => fn_X3_ofWish K p0 x3 0) fun v19 =>
      zm_bnd (zm_bnd (zm_is p0 20) fun _ => fn_X3_ofWish K p0 x3 1) fun v25 =>
      zm_bnd (fn_X3_isIn K p1 v19 (v25 - 1)) fun v30 =>
      zm_bnd (α := Int32) (
          if v30 = 0 then
            zm_ret 0
          else
            zm_ret 1
        ) fun b41 =>
      fn_X3_wishesOver_4 K p0 p1 n (x2 + b41) (x3 + 1)
noncomputable def fn_X3_wishesOver (K : zm_K) (a0 : zm_R) (a1 : Int32) : zm_M Int32 :=
  zm_bnd (α := Int32) (fn_X3_wishesOver_4 K a0 a1 zm_N 0 0) fun b49 =>
  zm_ret b49
theorem rf_X3_wishesOver_4 (H : zm_H Ω K) (C : zm_C p l R s m args meth c Ω lw_all cX3_wishesOver yX3_wishesOver.cls yX3_wishesOver.name 4 3 107 (Option.some Jvm.ClassFile.FieldType.int)) (hX : zm_XO p l e R s m args below meth c Ω n0 k0 (zm_QFs below args s Ω n0 k0 zm_tvI)) (p0 : zm_R) (p1 : Int32) : ∀ (n : Nat) (x2 : Int32) (x3 : Int32) (J : (Int32) → zm_M Int32) (ls : Array Slot), lv_has ls 4 [(0, va_rf p0), (1, .int p1), (2, .int x2), (3, .int x3)] → (∀ (b : Int32) (ls : Array Slot), lv_has ls 4 [(2, .int b)] → zm_RK p l e R s m args below meth c Ω n0 k0 (zm_QFs below args s Ω n0 k0 zm_tvI) (zm_ret b) J (F0 m 49 ls [])) → zm_RK p l e R s m args below meth c Ω n0 k0 (zm_QFs below args s Ω n0 k0 zm_tvI) (fn_X3_wishesOver_4 K p0 p1 n x2 x3) J (F0 m 4 ls []) := by
  have hx := C.1
  have hb := C.2.1
  intro n
  induction n with
  | zero => intro x2 x3 J ls hl hJ; exact rk_fl
  | succ n ih =>
    intro x2 x3 J ls hl hJ
    unfold fn_X3_wishesOver_4
    refine rk_of (fun _ _ _ _ _ k => lv_iload_n hx hb dX3_wishesOver_4 rfl (lv_at hl 3 rfl) (lr_aload_n hx hb dX3_wishesOver_5 rfl (lv_at hl 0 rfl) k)) ?_
    refine rk_get zm_rdR_eq C (hc_X3 H) (k := 0) (Nat.le_of_ble_eq_true rfl) in_X3 q2577 (fun _ h => h) dX3_wishesOver_6 (fun v6 => ?_)
    refine rk_of (fun _ _ _ _ _ k => lv_iconst (v := 2) hx hb dX3_wishesOver_9 rfl k) ?_
    refine rk_iald C dX3_wishesOver_10 (fun v10 => ?_)
    refine rk_ite (fun _ _ _ _ _ k1 k2 => lv_icmp_ge (tgt := 49) hx hb dX3_wishesOver_11 (by decide) k1 k2) (fun c_11 => ?_) (fun c_11 => ?_)
    · exact hJ x2 ls (lv_sub hl [2] rfl)
    · refine rk_of (fun _ _ _ _ _ k => lv_iload_n hx hb dX3_wishesOver_14 rfl (lv_at hl 2 rfl) (lv_iload_n hx hb dX3_wishesOver_15 rfl (lv_at hl 1 rfl) (lr_aload_n hx hb dX3_wishesOver_16 rfl (lv_at hl 0 rfl) (lv_iload_n hx hb dX3_wishesOver_17 rfl (lv_at hl 3 rfl) (lv_iconst (v := 0) hx hb dX3_wishesOver_18 rfl k))))) ?_
      refine rk_callI hX (cl_V (rest := [.int p1, .int x2]) (av := [.int x3, .int 0]) C (hc_X3 H) (ct_X3_ofWish H p0 x3 0) (lw_V q2814 q2816 qs68 q112 q2817) ⟨rfl, hd_X3_ofWish⟩ ⟨(Nat.le_of_ble_eq_true rfl), (Nat.le_of_ble_eq_true rfl)⟩ rfl hl.1 rfl (zw_le (zw_I (zw_I zw_nil)) (Nat.le_of_ble_eq_true rfl)) dX3_wishesOver_19) (fun v19 => ?_)
      refine rk_of (fun _ _ _ _ _ k => lr_aload_n hx hb dX3_wishesOver_22 rfl (lv_at hl 0 rfl) (lv_iload_n hx hb dX3_wishesOver_23 rfl (lv_at hl 3 rfl) (lv_iconst (v := 1) hx hb dX3_wishesOver_24 rfl k))) ?_
      refine rk_callI hX (cl_V (rest := [.int v19, .int p1, .int x2]) (av := [.int x3, .int 1]) C (hc_X3 H) (ct_X3_ofWish H p0 x3 1) (lw_V q2814 q2816 qs68 q112 q2817) ⟨rfl, hd_X3_ofWish⟩ ⟨(Nat.le_of_ble_eq_true rfl), (Nat.le_of_ble_eq_true rfl)⟩ rfl hl.1 rfl (zw_le (zw_I (zw_I (zw_I zw_nil))) (Nat.le_of_ble_eq_true rfl)) dX3_wishesOver_25) (fun v25 => ?_)
      refine rk_of (fun _ _ _ _ _ k => lv_iconst (v := 1) hx hb dX3_wishesOver_28 rfl (lv_isub hx hb dX3_wishesOver_29 k)) ?_
      refine rk_callI hX (cl_S (rest := [.int x2]) C (ct_X3_isIn H p1 v19 (v25 - 1)) (lw_S q2662 q2663 q112 q2664) hd_X3_isIn ⟨(Nat.le_of_ble_eq_true rfl), (Nat.le_of_ble_eq_true rfl)⟩ rfl hl.1 rfl (zw_le (zw_I zw_nil) (Nat.le_of_ble_eq_true rfl)) dX3_wishesOver_30) (fun v30 => ?_)
      refine rk_join (β := Int32) (fun (b41 : Int32) ls => lv_has ls 4 [(0, va_rf p0), (1, .int p1), (3, .int x3)]) (fun (b41 : Int32) ls => F0 m 41 ls [.int b41, .int x2]) (fun b41 ls hl => ?_) (fun hJ41 => ?_)
      · refine rk_ofs (fun _ _ _ _ _ k => lv_iadd hx hb dX3_wishesOver_41 (lr_istore_n hx hb dX3_wishesOver_42 rfl hl (Nat.le_of_ble_eq_true rfl) [0, 1, 2] rfl ⟨trivial, ⟨rfl, ⟨trivial, trivial⟩⟩⟩ k)) (fun ls hl => ?_)
        refine rk_ofs (fun _ _ _ _ _ k => lr_iinc (v := x3 + 1) hx hb dX3_wishesOver_43 hl (k := 3) rfl rfl (Nat.le_of_ble_eq_true rfl) [0, 1, 2] rfl ⟨rfl, ⟨trivial, ⟨trivial, trivial⟩⟩⟩ k) (fun ls hl => ?_)
        refine rk_of (fun _ _ _ _ _ k => lv_goto (tgt := 4) hx hb dX3_wishesOver_46 (by decide) k) ?_
        exact ih (x2 + b41) (x3 + 1) J ls (lv_sub hl [2, 3, 1, 0] rfl) hJ
      · refine rk_ite (fun _ _ _ _ _ k1 k2 => lv_if_eq (tgt := 40) hx hb dX3_wishesOver_33 (by decide) k1 k2) (fun c_33 => ?_) (fun c_33 => ?_)
        · refine rk_of (fun _ _ _ _ _ k => lv_iconst (v := 0) hx hb dX3_wishesOver_40 rfl k) ?_
          exact hJ41 0 ls (lv_sub hl [0, 1, 3] rfl)
        · refine rk_of (fun _ _ _ _ _ k => lv_iconst (v := 1) hx hb dX3_wishesOver_36 rfl (lv_goto (tgt := 41) hx hb dX3_wishesOver_37 (by decide) k)) ?_
          exact hJ41 1 ls (lv_sub hl [0, 1, 3] rfl)
theorem ct_X3_wishesOver {l : Launch} {Ω : zm_W} {K : zm_K} (H : zm_H Ω K) (a0 : zm_R) (a1 : Int32) : zm_Ct l Ω yX3_wishesOver (ws_ yX3_wishesOver cX3_wishesOver 4 (Option.some Jvm.ClassFile.FieldType.int)) 3 107 [va_rf a0, .int a1] zm_tvI (fn_X3_wishesOver K a0 a1) := by
  refine zm_ct H.1 (by decide +kernel) (zl_le (zl_R (zl_I zl_nil)) (Nat.le_of_ble_eq_true rfl)) ?_
  intro p e R s m args below meth c n0 k0 C hX ls hl
  have hx := C.1
  have hb := C.2.1
  simp only [zg_I, zg_R, zg_nil] at hl
  have hl : lv_has ls 4 [(0, va_rf a0), (1, .int a1)] := hl
  refine rk_rf ?_
  unfold fn_X3_wishesOver
  refine rk_ofs (fun _ _ _ _ _ k => lv_iconst (v := 0) hx hb dX3_wishesOver_0 rfl (lr_istore_n hx hb dX3_wishesOver_1 rfl hl (Nat.le_of_ble_eq_true rfl) [0, 1] rfl ⟨trivial, ⟨rfl, trivial⟩⟩ k)) (fun ls hl => ?_)
  refine rk_ofs (fun _ _ _ _ _ k => lv_iconst (v := 0) hx hb dX3_wishesOver_2 rfl (lr_istore_n hx hb dX3_wishesOver_3 rfl hl (Nat.le_of_ble_eq_true rfl) [0, 1, 2] rfl ⟨rfl, ⟨trivial, ⟨trivial, trivial⟩⟩⟩ k)) (fun ls hl => ?_)
  refine rk_join (β := Int32) (fun (b49 : Int32) ls => lv_has ls 4 [(2, .int b49)]) (fun (b49 : Int32) ls => F0 m 49 ls []) (fun b49 ls hl => ?_) (fun hJ49 => ?_)
  · refine rk_of (fun _ _ _ _ _ k => lv_iload_n hx hb dX3_wishesOver_49 rfl (lv_at hl 0 rfl) k) ?_
    exact rk_top (rf_iret C rfl dX3_wishesOver_50)
  · exact rf_X3_wishesOver_4 H C hX a0 a1 zm_N 0 0 _ ls (lv_sub hl [2, 3, 1, 0] rfl) hJ49
theorem hd_X3_busiest : yX3_busiest.cls ≠ "java/lang/invoke/MethodHandle" ∧ yX3_busiest.cls ≠ "java/lang/invoke/VarHandle" ∧ (parseMethodDescriptor yX3_busiest.desc).map (fun d => d.parameters.length) = some 0 := by decide +kernel
noncomputable def fn_X3_busiest_28 (K : zm_K) (p0 : zm_R) : Nat → Int32 → Int32 → zm_M (Int32)
  | 0, _, _ => zm_fl
  | n + 1, x1, x2 =>
    if 600 ≤ x2 then
      zm_ret x1
    else
      zm_bnd (zm_bnd (zm_is p0 20) fun _ => fn_X3_wishesOver K p0 x2) fun v37 =>
      zm_bnd (zm_bnd (zm_is p0 20) fun _ => fn_X3_wishesOver K p0 x1) fun v42 =>
      zm_bnd (α := Int32) (
          if v37 ≤ v42 then
            zm_ret x1
          else
            zm_ret x2
        ) fun b53 =>
      fn_X3_busiest_28 K p0 n b53 (x2 + 1)
noncomputable def fn_X3_busiest (K : zm_K) (a0 : zm_R) : zm_M Int32 :=
  zm_bnd (zm_getR a0 20 0) fun v2 =>
  zm_bnd (zm_aldI .int v2 2) fun v6 =>
  zm_bnd (α := Int32) (
      if v6 = 0 then
        zm_ret 1
      else
        zm_ret 0
    ) fun b15 =>
  zm_bnd (zm_bnd (zm_is a0 20) fun _ => fn_X3_isThrown K a0 b15 1) fun v16 =>
  if v16 = 0 then
    zm_bnd (α := Int32) (fn_X3_busiest_28 K a0 zm_N 0 1) fun b60 =>
    zm_ret b60
  else
    zm_ret 0
theorem rf_X3_busiest_28 (H : zm_H Ω K) (C : zm_C p l R s m args meth c Ω lw_all cX3_busiest yX3_busiest.cls yX3_busiest.name 3 4 130 (Option.some Jvm.ClassFile.FieldType.int)) (hX : zm_XO p l e R s m args below meth c Ω n0 k0 (zm_QFs below args s Ω n0 k0 zm_tvI)) (p0 : zm_R) : ∀ (n : Nat) (x1 : Int32) (x2 : Int32) (J : (Int32) → zm_M Int32) (ls : Array Slot), lv_has ls 3 [(0, va_rf p0), (1, .int x1), (2, .int x2)] → (∀ (b : Int32) (ls : Array Slot), lv_has ls 3 [(1, .int b)] → zm_RK p l e R s m args below meth c Ω n0 k0 (zm_QFs below args s Ω n0 k0 zm_tvI) (zm_ret b) J (F0 m 60 ls [])) → zm_RK p l e R s m args below meth c Ω n0 k0 (zm_QFs below args s Ω n0 k0 zm_tvI) (fn_X3_busiest_28 K p0 n x1 x2) J (F0 m 28 ls []) := by
  have hx := C.1
  have hb := C.2.1
  intro n
  induction n with
  | zero => intro x1 x2 J ls hl hJ; exact rk_fl
  | succ n ih =>
    intro x1 x2 J ls hl hJ
    unfold fn_X3_busiest_28
    refine rk_ite (fun _ _ _ _ _ k1 k2 => lv_iload_n hx hb dX3_busiest_28 rfl (lv_at hl 2 rfl) (lv_sipush (v := 600) hx hb dX3_busiest_29 rfl (lv_icmp_ge (tgt := 60) hx hb dX3_busiest_32 (by decide) k1 k2))) (fun c_32 => ?_) (fun c_32 => ?_)
    · exact hJ x1 ls (lv_sub hl [1] rfl)
    · refine rk_of (fun _ _ _ _ _ k => lr_aload_n hx hb dX3_busiest_35 rfl (lv_at hl 0 rfl) (lv_iload_n hx hb dX3_busiest_36 rfl (lv_at hl 2 rfl) k)) ?_
      refine rk_callI hX (cl_V (rest := []) (av := [.int x2]) C (hc_X3 H) (ct_X3_wishesOver H p0 x2) (lw_V q2822 q2824 qs69 q112 q2825) ⟨rfl, hd_X3_wishesOver⟩ ⟨(Nat.le_of_ble_eq_true rfl), (Nat.le_of_ble_eq_true rfl)⟩ rfl hl.1 rfl (zw_le zw_nil (Nat.le_of_ble_eq_true rfl)) dX3_busiest_37) (fun v37 => ?_)
      refine rk_of (fun _ _ _ _ _ k => lr_aload_n hx hb dX3_busiest_40 rfl (lv_at hl 0 rfl) (lv_iload_n hx hb dX3_busiest_41 rfl (lv_at hl 1 rfl) k)) ?_
      refine rk_callI hX (cl_V (rest := [.int v37]) (av := [.int x1]) C (hc_X3 H) (ct_X3_wishesOver H p0 x1) (lw_V q2822 q2824 qs69 q112 q2825) ⟨rfl, hd_X3_wishesOver⟩ ⟨(Nat.le_of_ble_eq_true rfl), (Nat.le_of_ble_eq_true rfl)⟩ rfl hl.1 rfl (zw_le (zw_I zw_nil) (Nat.le_of_ble_eq_true rfl)) dX3_busiest_42) (fun v42 => ?_)
      refine rk_join (β := Int32) (fun (b53 : Int32) ls => lv_has ls 3 [(0, va_rf p0), (2, .int x2)]) (fun (b53 : Int32) ls => F0 m 53 ls [.int b53]) (fun b53 ls hl => ?_) (fun hJ53 => ?_)
      · refine rk_ofs (fun _ _ _ _ _ k => lr_istore_n hx hb dX3_busiest_53 rfl hl (Nat.le_of_ble_eq_true rfl) [0, 1] rfl ⟨va_rf_cat _, ⟨trivial, trivial⟩⟩ k) (fun ls hl => ?_)
        refine rk_ofs (fun _ _ _ _ _ k => lr_iinc (v := x2 + 1) hx hb dX3_busiest_54 hl (k := 2) rfl rfl (Nat.le_of_ble_eq_true rfl) [0, 1] rfl ⟨rfl, ⟨trivial, trivial⟩⟩ k) (fun ls hl => ?_)
        refine rk_of (fun _ _ _ _ _ k => lv_goto (tgt := 28) hx hb dX3_busiest_57 (by decide) k) ?_
        exact ih b53 (x2 + 1) J ls (lv_sub hl [2, 1, 0] rfl) hJ
      · refine rk_ite (fun _ _ _ _ _ k1 k2 => lv_icmp_le (tgt := 52) hx hb dX3_busiest_45 (by decide) k1 k2) (fun c_45 => ?_) (fun c_45 => ?_)
        · refine rk_of (fun _ _ _ _ _ k => lv_iload_n hx hb dX3_busiest_52 rfl (lv_at hl 1 rfl) k) ?_
          exact hJ53 x1 ls (lv_sub hl [0, 2] rfl)
        · refine rk_of (fun _ _ _ _ _ k => lv_iload_n hx hb dX3_busiest_48 rfl (lv_at hl 2 rfl) (lv_goto (tgt := 53) hx hb dX3_busiest_49 (by decide) k)) ?_
          exact hJ53 x2 ls (lv_sub hl [0, 2] rfl)
theorem ct_X3_busiest {l : Launch} {Ω : zm_W} {K : zm_K} (H : zm_H Ω K) (a0 : zm_R) : zm_Ct l Ω yX3_busiest (ws_ yX3_busiest cX3_busiest 3 (Option.some Jvm.ClassFile.FieldType.int)) 4 130 [va_rf a0] zm_tvI (fn_X3_busiest K a0) := by
  refine zm_ct H.1 (by decide +kernel) (zl_le (zl_R zl_nil) (Nat.le_of_ble_eq_true rfl)) ?_
  intro p e R s m args below meth c n0 k0 C hX ls hl
  have hx := C.1
  have hb := C.2.1
  simp only [zg_R, zg_nil] at hl
  have hl : lv_has ls 3 [(0, va_rf a0)] := hl
  refine rk_rf ?_
  unfold fn_X3_busiest
  refine rk_of (fun _ _ _ _ _ k => lr_aload_n hx hb dX3_busiest_0 rfl (lv_at hl 0 rfl) (lr_aload_n hx hb dX3_busiest_1 rfl (lv_at hl 0 rfl) k)) ?_
  refine rk_get zm_rdR_eq C (hc_X3 H) (k := 0) (Nat.le_of_ble_eq_true rfl) in_X3 q2577 (fun _ h => h) dX3_busiest_2 (fun v2 => ?_)
  refine rk_of (fun _ _ _ _ _ k => lv_iconst (v := 2) hx hb dX3_busiest_5 rfl k) ?_
  refine rk_iald C dX3_busiest_6 (fun v6 => ?_)
  refine rk_join (β := Int32) (fun (b15 : Int32) ls => lv_has ls 3 [(0, va_rf a0)]) (fun (b15 : Int32) ls => F0 m 15 ls [.int b15, va_rf a0]) (fun b15 ls hl => ?_) (fun hJ15 => ?_)
  · refine rk_of (fun _ _ _ _ _ k => lv_iconst (v := 1) hx hb dX3_busiest_15 rfl k) ?_
    refine rk_callI hX (cl_V (rest := []) (av := [.int b15, .int 1]) C (hc_X3 H) (ct_X3_isThrown H a0 b15 1) (lw_V q2665 q2667 qs46 q112 q2668) ⟨rfl, hd_X3_isThrown⟩ ⟨(Nat.le_of_ble_eq_true rfl), (Nat.le_of_ble_eq_true rfl)⟩ rfl hl.1 rfl (zw_le zw_nil (Nat.le_of_ble_eq_true rfl)) dX3_busiest_16) (fun v16 => ?_)
    refine rk_ite (fun _ _ _ _ _ k1 k2 => lv_if_eq (tgt := 24) hx hb dX3_busiest_19 (by decide) k1 k2) (fun c_19 => ?_) (fun c_19 => ?_)
    · refine rk_ofs (fun _ _ _ _ _ k => lv_iconst (v := 0) hx hb dX3_busiest_24 rfl (lr_istore_n hx hb dX3_busiest_25 rfl hl (Nat.le_of_ble_eq_true rfl) [0] rfl ⟨va_rf_cat _, trivial⟩ k)) (fun ls hl => ?_)
      refine rk_ofs (fun _ _ _ _ _ k => lv_iconst (v := 1) hx hb dX3_busiest_26 rfl (lr_istore_n hx hb dX3_busiest_27 rfl hl (Nat.le_of_ble_eq_true rfl) [0, 1] rfl ⟨rfl, ⟨trivial, trivial⟩⟩ k)) (fun ls hl => ?_)
      refine rk_join (β := Int32) (fun (b60 : Int32) ls => lv_has ls 3 [(1, .int b60)]) (fun (b60 : Int32) ls => F0 m 60 ls []) (fun b60 ls hl => ?_) (fun hJ60 => ?_)
      · refine rk_of (fun _ _ _ _ _ k => lv_iload_n hx hb dX3_busiest_60 rfl (lv_at hl 0 rfl) k) ?_
        exact rk_top (rf_iret C rfl dX3_busiest_61)
      · exact rf_X3_busiest_28 H C hX a0 zm_N 0 1 _ ls (lv_sub hl [2, 1, 0] rfl) hJ60
    · refine rk_of (fun _ _ _ _ _ k => lv_iconst (v := 0) hx hb dX3_busiest_22 rfl k) ?_
      exact rk_top (rf_iret C rfl dX3_busiest_23)
  · refine rk_ite (fun _ _ _ _ _ k1 k2 => lv_if_ne (tgt := 14) hx hb dX3_busiest_7 (by decide) k2 k1) (fun c_7 => ?_) (fun c_7 => ?_)
    · refine rk_of (fun _ _ _ _ _ k => lv_iconst (v := 1) hx hb dX3_busiest_10 rfl (lv_goto (tgt := 15) hx hb dX3_busiest_11 (by decide) k)) ?_
      exact hJ15 1 ls (lv_sub hl [0] rfl)
    · refine rk_of (fun _ _ _ _ _ k => lv_iconst (v := 0) hx hb dX3_busiest_14 rfl k) ?_
      exact hJ15 0 ls (lv_sub hl [0] rfl)
theorem hd_X3_isLetting : yX3_isLetting.cls ≠ "java/lang/invoke/MethodHandle" ∧ yX3_isLetting.cls ≠ "java/lang/invoke/VarHandle" ∧ (parseMethodDescriptor yX3_isLetting.desc).map (fun d => d.parameters.length) = some 1 := by decide +kernel
noncomputable def fn_X3_isLetting (K : zm_K) (a0 : zm_R) (a1 : Int32) : zm_M Int32 :=
  zm_bnd (zm_getR a0 20 0) fun v3 =>
  zm_bnd (zm_aldI .int v3 1) fun v7 =>
  zm_bnd (fn_X3_isIn K a1 0 (v7 - 1)) fun v10 =>
  zm_bnd (zm_grd (v10 = 0 ∨ v10 = 1)) fun _ =>
  zm_ret v10
theorem ct_X3_isLetting {l : Launch} {Ω : zm_W} {K : zm_K} (H : zm_H Ω K) (a0 : zm_R) (a1 : Int32) : zm_Ct l Ω yX3_isLetting (ws_ yX3_isLetting cX3_isLetting 2 (Option.some Jvm.ClassFile.FieldType.boolean)) 2 86 [va_rf a0, .int a1] zm_tvI (fn_X3_isLetting K a0 a1) := by
  refine zm_ct H.1 (by decide +kernel) (zl_le (zl_R (zl_I zl_nil)) (Nat.le_of_ble_eq_true rfl)) ?_
  intro p e R s m args below meth c n0 k0 C hX ls hl
  have hx := C.1
  have hb := C.2.1
  simp only [zg_I, zg_R, zg_nil] at hl
  have hl : lv_has ls 2 [(0, va_rf a0), (1, .int a1)] := hl
  refine rk_rf ?_
  unfold fn_X3_isLetting
  refine rk_of (fun _ _ _ _ _ k => lv_iload_n hx hb dX3_isLetting_0 rfl (lv_at hl 1 rfl) (lv_iconst (v := 0) hx hb dX3_isLetting_1 rfl (lr_aload_n hx hb dX3_isLetting_2 rfl (lv_at hl 0 rfl) k))) ?_
  refine rk_get zm_rdR_eq C (hc_X3 H) (k := 0) (Nat.le_of_ble_eq_true rfl) in_X3 q2577 (fun _ h => h) dX3_isLetting_3 (fun v3 => ?_)
  refine rk_of (fun _ _ _ _ _ k => lv_iconst (v := 1) hx hb dX3_isLetting_6 rfl k) ?_
  refine rk_iald C dX3_isLetting_7 (fun v7 => ?_)
  refine rk_of (fun _ _ _ _ _ k => lv_iconst (v := 1) hx hb dX3_isLetting_8 rfl (lv_isub hx hb dX3_isLetting_9 k)) ?_
  refine rk_callI hX (cl_S (rest := []) C (ct_X3_isIn H a1 0 (v7 - 1)) (lw_S q2662 q2663 q112 q2664) hd_X3_isIn ⟨(Nat.le_of_ble_eq_true rfl), (Nat.le_of_ble_eq_true rfl)⟩ rfl hl.1 rfl (zw_le zw_nil (Nat.le_of_ble_eq_true rfl)) dX3_isLetting_10) (fun v10 => ?_)
  refine rk_grd (fun hg_13 => ?_)
  exact rk_top (rf_iret C (zn_Z hg_13) dX3_isLetting_13)
theorem hd_X3_isRefusedAsOver : yX3_isRefusedAsOver.cls ≠ "java/lang/invoke/MethodHandle" ∧ yX3_isRefusedAsOver.cls ≠ "java/lang/invoke/VarHandle" ∧ (parseMethodDescriptor yX3_isRefusedAsOver.desc).map (fun d => d.parameters.length) = some 1 := by decide +kernel
noncomputable def fn_X3_isRefusedAsOver (K : zm_K) (a0 : zm_R) (a1 : Int32) : zm_M Int32 :=
  zm_bnd (zm_bnd (zm_is a0 20) fun _ => fn_X3_isOver K a0 a1) fun v3 =>
  zm_bnd (zm_bnd (zm_is a0 20) fun _ => fn_X3_isRefused K a0 v3 4 a1) fun v8 =>
  zm_bnd (zm_grd (v8 = 0 ∨ v8 = 1)) fun _ =>
  zm_ret v8
theorem ct_X3_isRefusedAsOver {l : Launch} {Ω : zm_W} {K : zm_K} (H : zm_H Ω K) (a0 : zm_R) (a1 : Int32) : zm_Ct l Ω yX3_isRefusedAsOver (ws_ yX3_isRefusedAsOver cX3_isRefusedAsOver 2 (Option.some Jvm.ClassFile.FieldType.boolean)) 4 128 [va_rf a0, .int a1] zm_tvI (fn_X3_isRefusedAsOver K a0 a1) := by
  refine zm_ct H.1 (by decide +kernel) (zl_le (zl_R (zl_I zl_nil)) (Nat.le_of_ble_eq_true rfl)) ?_
  intro p e R s m args below meth c n0 k0 C hX ls hl
  have hx := C.1
  have hb := C.2.1
  simp only [zg_I, zg_R, zg_nil] at hl
  have hl : lv_has ls 2 [(0, va_rf a0), (1, .int a1)] := hl
  refine rk_rf ?_
  unfold fn_X3_isRefusedAsOver
  refine rk_of (fun _ _ _ _ _ k => lr_aload_n hx hb dX3_isRefusedAsOver_0 rfl (lv_at hl 0 rfl) (lr_aload_n hx hb dX3_isRefusedAsOver_1 rfl (lv_at hl 0 rfl) (lv_iload_n hx hb dX3_isRefusedAsOver_2 rfl (lv_at hl 1 rfl) k))) ?_
  refine rk_callI hX (cl_V (rest := [va_rf a0]) (av := [.int a1]) C (hc_X3 H) (ct_X3_isOver H a0 a1) (lw_V q2703 q2705 qs53 q112 q2706) ⟨rfl, hd_X3_isOver⟩ ⟨(Nat.le_of_ble_eq_true rfl), (Nat.le_of_ble_eq_true rfl)⟩ rfl hl.1 rfl (zw_le (zw_R zw_nil) (Nat.le_of_ble_eq_true rfl)) dX3_isRefusedAsOver_3) (fun v3 => ?_)
  refine rk_of (fun _ _ _ _ _ k => lv_iconst (v := 4) hx hb dX3_isRefusedAsOver_6 rfl (lv_iload_n hx hb dX3_isRefusedAsOver_7 rfl (lv_at hl 1 rfl) k)) ?_
  refine rk_callI hX (cl_V (rest := []) (av := [.int v3, .int 4, .int a1]) C (hc_X3 H) (ct_X3_isRefused H a0 v3 4 a1) (lw_V q2669 q2671 qs47 q112 q2672) ⟨rfl, hd_X3_isRefused⟩ ⟨(Nat.le_of_ble_eq_true rfl), (Nat.le_of_ble_eq_true rfl)⟩ rfl hl.1 rfl (zw_le zw_nil (Nat.le_of_ble_eq_true rfl)) dX3_isRefusedAsOver_8) (fun v8 => ?_)
  refine rk_grd (fun hg_11 => ?_)
  exact rk_top (rf_iret C (zn_Z hg_11) dX3_isRefusedAsOver_11)
theorem hd_X3_cancels : yX3_cancels.cls ≠ "java/lang/invoke/MethodHandle" ∧ yX3_cancels.cls ≠ "java/lang/invoke/VarHandle" ∧ (parseMethodDescriptor yX3_cancels.desc).map (fun d => d.parameters.length) = some 1 := by decide +kernel
noncomputable def fn_X3_cancels (K : zm_K) (a0 : zm_R) (a1 : Int32) : zm_M Int32 :=
  zm_bnd (zm_bnd (zm_is a0 20) fun _ => fn_X3_isRefusedAsOver K a0 a1) fun v2 =>
  if v2 = 0 then
    zm_bnd (zm_bnd (zm_is a0 20) fun _ => fn_X3_coinsOf K a0 a1) fun v12 =>
    zm_bnd (zm_getR a0 20 0) fun v17 =>
    zm_bnd (fn_X3_lettingAt K a1 4) fun v22 =>
    zm_bnd (zm_astI K .int v17 v22 1) fun _ =>
    zm_bnd (zm_getR a0 20 0) fun v28 =>
    zm_bnd (zm_aldI .int v28 4) fun v33 =>
    zm_bnd (zm_astI K .int v28 4 (v33 + 1)) fun _ =>
    zm_ret v12
  else
    zm_ret 0
theorem ct_X3_cancels {l : Launch} {Ω : zm_W} {K : zm_K} (H : zm_H Ω K) (a0 : zm_R) (a1 : Int32) : zm_Ct l Ω yX3_cancels (ws_ yX3_cancels cX3_cancels 3 (Option.some Jvm.ClassFile.FieldType.int)) 5 149 [va_rf a0, .int a1] zm_tvI (fn_X3_cancels K a0 a1) := by
  refine zm_ct H.1 (by decide +kernel) (zl_le (zl_R (zl_I zl_nil)) (Nat.le_of_ble_eq_true rfl)) ?_
  intro p e R s m args below meth c n0 k0 C hX ls hl
  have hx := C.1
  have hb := C.2.1
  simp only [zg_I, zg_R, zg_nil] at hl
  have hl : lv_has ls 3 [(0, va_rf a0), (1, .int a1)] := hl
  refine rk_rf ?_
  unfold fn_X3_cancels
  refine rk_of (fun _ _ _ _ _ k => lr_aload_n hx hb dX3_cancels_0 rfl (lv_at hl 0 rfl) (lv_iload_n hx hb dX3_cancels_1 rfl (lv_at hl 1 rfl) k)) ?_
  refine rk_callI hX (cl_V (rest := []) (av := [.int a1]) C (hc_X3 H) (ct_X3_isRefusedAsOver H a0 a1) (lw_V q2730 q2732 qs58 q112 q2733) ⟨rfl, hd_X3_isRefusedAsOver⟩ ⟨(Nat.le_of_ble_eq_true rfl), (Nat.le_of_ble_eq_true rfl)⟩ rfl hl.1 rfl (zw_le zw_nil (Nat.le_of_ble_eq_true rfl)) dX3_cancels_2) (fun v2 => ?_)
  refine rk_ite (fun _ _ _ _ _ k1 k2 => lv_if_eq (tgt := 10) hx hb dX3_cancels_5 (by decide) k1 k2) (fun c_5 => ?_) (fun c_5 => ?_)
  · refine rk_of (fun _ _ _ _ _ k => lr_aload_n hx hb dX3_cancels_10 rfl (lv_at hl 0 rfl) (lv_iload_n hx hb dX3_cancels_11 rfl (lv_at hl 1 rfl) k)) ?_
    refine rk_callI hX (cl_V (rest := []) (av := [.int a1]) C (hc_X3 H) (ct_X3_coinsOf H a0 a1) (lw_V q2734 q2736 qs59 q112 q2737) ⟨rfl, hd_X3_coinsOf⟩ ⟨(Nat.le_of_ble_eq_true rfl), (Nat.le_of_ble_eq_true rfl)⟩ rfl hl.1 rfl (zw_le zw_nil (Nat.le_of_ble_eq_true rfl)) dX3_cancels_12) (fun v12 => ?_)
    refine rk_ofs (fun _ _ _ _ _ k => lr_istore_n hx hb dX3_cancels_15 rfl hl (Nat.le_of_ble_eq_true rfl) [0, 1] rfl ⟨trivial, ⟨rfl, trivial⟩⟩ k) (fun ls hl => ?_)
    refine rk_of (fun _ _ _ _ _ k => lr_aload_n hx hb dX3_cancels_16 rfl (lv_at hl 1 rfl) k) ?_
    refine rk_get zm_rdR_eq C (hc_X3 H) (k := 0) (Nat.le_of_ble_eq_true rfl) in_X3 q2577 (fun _ h => h) dX3_cancels_17 (fun v17 => ?_)
    refine rk_of (fun _ _ _ _ _ k => lv_iload_n hx hb dX3_cancels_20 rfl (lv_at hl 2 rfl) (lv_iconst (v := 4) hx hb dX3_cancels_21 rfl k)) ?_
    refine rk_callI hX (cl_S (rest := [va_rf v17]) C (ct_X3_lettingAt H a1 4) (lw_S q2711 q2712 q112 q2713) hd_X3_lettingAt ⟨(Nat.le_of_ble_eq_true rfl), (Nat.le_of_ble_eq_true rfl)⟩ rfl hl.1 rfl (zw_le (zw_R zw_nil) (Nat.le_of_ble_eq_true rfl)) dX3_cancels_22) (fun v22 => ?_)
    refine rk_of (fun _ _ _ _ _ k => lv_iconst (v := 1) hx hb dX3_cancels_25 rfl k) ?_
    refine rk_iast C H.2.2.1 dX3_cancels_26 ?_
    refine rk_of (fun _ _ _ _ _ k => lr_aload_n hx hb dX3_cancels_27 rfl (lv_at hl 1 rfl) k) ?_
    refine rk_get zm_rdR_eq C (hc_X3 H) (k := 0) (Nat.le_of_ble_eq_true rfl) in_X3 q2577 (fun _ h => h) dX3_cancels_28 (fun v28 => ?_)
    refine rk_of (fun _ _ _ _ _ k => lv_iconst (v := 4) hx hb dX3_cancels_31 rfl (lv_dup2_11 hx hb dX3_cancels_32 rfl (va_rf_cat _) k)) ?_
    refine rk_iald C dX3_cancels_33 (fun v33 => ?_)
    refine rk_of (fun _ _ _ _ _ k => lv_iconst (v := 1) hx hb dX3_cancels_34 rfl (lv_iadd hx hb dX3_cancels_35 k)) ?_
    refine rk_iast C H.2.2.1 dX3_cancels_36 ?_
    refine rk_of (fun _ _ _ _ _ k => lv_iload_n hx hb dX3_cancels_37 rfl (lv_at hl 0 rfl) k) ?_
    exact rk_top (rf_iret C rfl dX3_cancels_38)
  · refine rk_of (fun _ _ _ _ _ k => lv_iconst (v := 0) hx hb dX3_cancels_8 rfl k) ?_
    exact rk_top (rf_iret C rfl dX3_cancels_9)
theorem hd_X3_cancel : yX3_cancel.cls ≠ "java/lang/invoke/MethodHandle" ∧ yX3_cancel.cls ≠ "java/lang/invoke/VarHandle" ∧ (parseMethodDescriptor yX3_cancel.desc).map (fun d => d.parameters.length) = some 1 := by decide +kernel
noncomputable def fn_X3_cancel (K : zm_K) (a0 : zm_R) (a1 : Int32) : zm_M Int32 :=
  zm_bnd (zm_bnd (zm_is a0 20) fun _ => fn_X3_keeps K a0) fun _ =>
  zm_bnd (zm_bnd (zm_is a0 20) fun _ => fn_X3_isLetting K a0 a1) fun v7 =>
  zm_bnd (α := Int32) (
      if v7 = 0 then
        zm_ret 1
      else
        zm_ret 0
    ) fun b18 =>
  zm_bnd (zm_bnd (zm_is a0 20) fun _ => fn_X3_isThrown K a0 b18 1) fun v19 =>
  if v19 = 0 then
    zm_bnd (zm_bnd (zm_is a0 20) fun _ => fn_X3_cancels K a0 a1) fun v30 =>
    zm_bnd (zm_bnd (zm_is a0 20) fun _ => fn_X3_ends K a0 v30 2) fun v34 =>
    zm_ret v34
  else
    zm_ret 0
theorem ct_X3_cancel {l : Launch} {Ω : zm_W} {K : zm_K} (H : zm_H Ω K) (a0 : zm_R) (a1 : Int32) : zm_Ct l Ω yX3_cancel (ws_ yX3_cancel cX3_cancel 2 (Option.some Jvm.ClassFile.FieldType.int)) 6 171 [va_rf a0, .int a1] zm_tvI (fn_X3_cancel K a0 a1) := by
  refine zm_ct H.1 (by decide +kernel) (zl_le (zl_R (zl_I zl_nil)) (Nat.le_of_ble_eq_true rfl)) ?_
  intro p e R s m args below meth c n0 k0 C hX ls hl
  have hx := C.1
  have hb := C.2.1
  simp only [zg_I, zg_R, zg_nil] at hl
  have hl : lv_has ls 2 [(0, va_rf a0), (1, .int a1)] := hl
  refine rk_rf ?_
  unfold fn_X3_cancel
  refine rk_of (fun _ _ _ _ _ k => lr_aload_n hx hb dX3_cancel_0 rfl (lv_at hl 0 rfl) k) ?_
  refine rk_callV hX (cl_V (rest := []) (av := []) C (hc_X3 H) (ct_X3_keeps H a0) (lw_V q2655 q2657 qs45 q112 q2658) ⟨rfl, hd_X3_keeps⟩ ⟨(Nat.le_of_ble_eq_true rfl), (Nat.le_of_ble_eq_true rfl)⟩ rfl hl.1 rfl (zw_le zw_nil (Nat.le_of_ble_eq_true rfl)) dX3_cancel_1) (fun _ => ?_)
  refine rk_of (fun _ _ _ _ _ k => lr_aload_n hx hb dX3_cancel_4 rfl (lv_at hl 0 rfl) (lr_aload_n hx hb dX3_cancel_5 rfl (lv_at hl 0 rfl) (lv_iload_n hx hb dX3_cancel_6 rfl (lv_at hl 1 rfl) k))) ?_
  refine rk_callI hX (cl_V (rest := [va_rf a0]) (av := [.int a1]) C (hc_X3 H) (ct_X3_isLetting H a0 a1) (lw_V q2722 q2724 qs56 q112 q2725) ⟨rfl, hd_X3_isLetting⟩ ⟨(Nat.le_of_ble_eq_true rfl), (Nat.le_of_ble_eq_true rfl)⟩ rfl hl.1 rfl (zw_le (zw_R zw_nil) (Nat.le_of_ble_eq_true rfl)) dX3_cancel_7) (fun v7 => ?_)
  refine rk_join (β := Int32) (fun (b18 : Int32) ls => lv_has ls 2 [(0, va_rf a0), (1, .int a1)]) (fun (b18 : Int32) ls => F0 m 18 ls [.int b18, va_rf a0]) (fun b18 ls hl => ?_) (fun hJ18 => ?_)
  · refine rk_of (fun _ _ _ _ _ k => lv_iconst (v := 1) hx hb dX3_cancel_18 rfl k) ?_
    refine rk_callI hX (cl_V (rest := []) (av := [.int b18, .int 1]) C (hc_X3 H) (ct_X3_isThrown H a0 b18 1) (lw_V q2665 q2667 qs46 q112 q2668) ⟨rfl, hd_X3_isThrown⟩ ⟨(Nat.le_of_ble_eq_true rfl), (Nat.le_of_ble_eq_true rfl)⟩ rfl hl.1 rfl (zw_le zw_nil (Nat.le_of_ble_eq_true rfl)) dX3_cancel_19) (fun v19 => ?_)
    refine rk_ite (fun _ _ _ _ _ k1 k2 => lv_if_eq (tgt := 27) hx hb dX3_cancel_22 (by decide) k1 k2) (fun c_22 => ?_) (fun c_22 => ?_)
    · refine rk_of (fun _ _ _ _ _ k => lr_aload_n hx hb dX3_cancel_27 rfl (lv_at hl 0 rfl) (lr_aload_n hx hb dX3_cancel_28 rfl (lv_at hl 0 rfl) (lv_iload_n hx hb dX3_cancel_29 rfl (lv_at hl 1 rfl) k))) ?_
      refine rk_callI hX (cl_V (rest := [va_rf a0]) (av := [.int a1]) C (hc_X3 H) (ct_X3_cancels H a0 a1) (lw_V q2726 q2728 qs57 q112 q2729) ⟨rfl, hd_X3_cancels⟩ ⟨(Nat.le_of_ble_eq_true rfl), (Nat.le_of_ble_eq_true rfl)⟩ rfl hl.1 rfl (zw_le (zw_R zw_nil) (Nat.le_of_ble_eq_true rfl)) dX3_cancel_30) (fun v30 => ?_)
      refine rk_of (fun _ _ _ _ _ k => lv_iconst (v := 2) hx hb dX3_cancel_33 rfl k) ?_
      refine rk_callI hX (cl_V (rest := []) (av := [.int v30, .int 2]) C (hc_X3 H) (ct_X3_ends H a0 v30 2) (lw_V q2673 q2675 qs48 q112 q2676) ⟨rfl, hd_X3_ends⟩ ⟨(Nat.le_of_ble_eq_true rfl), (Nat.le_of_ble_eq_true rfl)⟩ rfl hl.1 rfl (zw_le zw_nil (Nat.le_of_ble_eq_true rfl)) dX3_cancel_34) (fun v34 => ?_)
      exact rk_top (rf_iret C rfl dX3_cancel_37)
    · refine rk_of (fun _ _ _ _ _ k => lv_iconst (v := 0) hx hb dX3_cancel_25 rfl k) ?_
      exact rk_top (rf_iret C rfl dX3_cancel_26)
  · refine rk_ite (fun _ _ _ _ _ k1 k2 => lv_if_ne (tgt := 17) hx hb dX3_cancel_10 (by decide) k2 k1) (fun c_10 => ?_) (fun c_10 => ?_)
    · refine rk_of (fun _ _ _ _ _ k => lv_iconst (v := 1) hx hb dX3_cancel_13 rfl (lv_goto (tgt := 18) hx hb dX3_cancel_14 (by decide) k)) ?_
      exact hJ18 1 ls (lv_sub hl [0, 1] rfl)
    · refine rk_of (fun _ _ _ _ _ k => lv_iconst (v := 0) hx hb dX3_cancel_17 rfl k) ?_
      exact hJ18 0 ls (lv_sub hl [0, 1] rfl)
theorem hd_X3_nextLetting : yX3_nextLetting.cls ≠ "java/lang/invoke/MethodHandle" ∧ yX3_nextLetting.cls ≠ "java/lang/invoke/VarHandle" ∧ (parseMethodDescriptor yX3_nextLetting.desc).map (fun d => d.parameters.length) = some 2 := by decide +kernel
noncomputable def fn_X3_nextLetting_5 (K : zm_K) (p0 : zm_R) (p1 : Int32) (p2 : Int32) : Nat → Int32 → Int32 → zm_M (Int32)
  | 0, _, _ => zm_fl
  | n + 1, x3, x4 =>
    zm_bnd (zm_getR p0 20 0) fun v8 =>
    zm_bnd (zm_aldI .int v8 1) fun v12 =>
    if v12 ≤ x4 then
      zm_ret x3
    else
      zm_bnd (zm_bnd (zm_is p0 20) fun _ => fn_X3_isOver K p0 x4) fun v19 =>
      zm_bnd (α := Int32) (
          if v19 = 0 then
            zm_bnd (zm_bnd (zm_is p0 20) fun _ => fn_X3_ofLetting K p0 x4 0) fun v29 =>
            if v29 = p1 then
              zm_bnd (zm_bnd (zm_is p0 20) fun _ => fn_X3_ofLetting K p0 x4 1) fun v40 =>
              if v40 < p2 then
                zm_ret 0
              else
                zm_ret 1
            else
              zm_ret 0
          else
            zm_ret 0
        ) fun b52 =>
      zm_bnd (α := Int32) (
          if b52 = 0 then
            zm_ret x3
          else
            if x3 < 0 then
              zm_ret x4
            else
              zm_bnd (zm_bnd (zm_is p0 20) fun _ => fn_X3_ofLetting K p0 x4 1) fun v67 =>
              zm_bnd (zm_bnd (zm_is p0 20) fun _ => fn_X3_ofLetting K p0 x3 1) fun v73 =>
              if v73 ≤ v67 then
                zm_ret x3
              else
                zm_ret x4
        ) fun b85 =>
      fn_X3_nextLetting_5 K p0 p1 p2 n b85 (x4 + 1)
noncomputable def fn_X3_nextLetting (K : zm_K) (a0 : zm_R) (a1 : Int32) (a2 : Int32) : zm_M Int32 :=
  zm_bnd (α := Int32) (fn_X3_nextLetting_5 K a0 a1 a2 zm_N (-1) 0) fun b92 =>
  zm_ret b92
theorem rf_X3_nextLetting_5 (H : zm_H Ω K) (C : zm_C p l R s m args meth c Ω lw_all cX3_nextLetting yX3_nextLetting.cls yX3_nextLetting.name 6 4 128 (Option.some Jvm.ClassFile.FieldType.int)) (hX : zm_XO p l e R s m args below meth c Ω n0 k0 (zm_QFs below args s Ω n0 k0 zm_tvI)) (p0 : zm_R) (p1 : Int32) (p2 : Int32) : ∀ (n : Nat) (x3 : Int32) (x4 : Int32) (J : (Int32) → zm_M Int32) (ls : Array Slot), lv_has ls 6 [(0, va_rf p0), (1, .int p1), (2, .int p2), (3, .int x3), (4, .int x4)] → (∀ (b : Int32) (ls : Array Slot), lv_has ls 6 [(3, .int b)] → zm_RK p l e R s m args below meth c Ω n0 k0 (zm_QFs below args s Ω n0 k0 zm_tvI) (zm_ret b) J (F0 m 92 ls [])) → zm_RK p l e R s m args below meth c Ω n0 k0 (zm_QFs below args s Ω n0 k0 zm_tvI) (fn_X3_nextLetting_5 K p0 p1 p2 n x3 x4) J (F0 m 5 ls []) := by
  have hx := C.1
  have hb := C.2.1
  intro n
  induction n with
  | zero => intro x3 x4 J ls hl hJ; exact rk_fl
  | succ n ih =>
    intro x3 x4 J ls hl hJ
    unfold fn_X3_nextLetting_5
    refine rk_of (fun _ _ _ _ _ k => lv_iload hx hb dX3_nextLetting_5 (lv_at hl 4 rfl) (lr_aload_n hx hb dX3_nextLetting_7 rfl (lv_at hl 0 rfl) k)) ?_
    refine rk_get zm_rdR_eq C (hc_X3 H) (k := 0) (Nat.le_of_ble_eq_true rfl) in_X3 q2577 (fun _ h => h) dX3_nextLetting_8 (fun v8 => ?_)
    refine rk_of (fun _ _ _ _ _ k => lv_iconst (v := 1) hx hb dX3_nextLetting_11 rfl k) ?_
    refine rk_iald C dX3_nextLetting_12 (fun v12 => ?_)
    refine rk_ite (fun _ _ _ _ _ k1 k2 => lv_icmp_ge (tgt := 92) hx hb dX3_nextLetting_13 (by decide) k1 k2) (fun c_13 => ?_) (fun c_13 => ?_)
    · exact hJ x3 ls (lv_sub hl [3] rfl)
    · refine rk_of (fun _ _ _ _ _ k => lr_aload_n hx hb dX3_nextLetting_16 rfl (lv_at hl 0 rfl) (lv_iload hx hb dX3_nextLetting_17 (lv_at hl 4 rfl) k)) ?_
      refine rk_callI hX (cl_V (rest := []) (av := [.int x4]) C (hc_X3 H) (ct_X3_isOver H p0 x4) (lw_V q2703 q2705 qs53 q112 q2706) ⟨rfl, hd_X3_isOver⟩ ⟨(Nat.le_of_ble_eq_true rfl), (Nat.le_of_ble_eq_true rfl)⟩ rfl hl.1 rfl (zw_le zw_nil (Nat.le_of_ble_eq_true rfl)) dX3_nextLetting_19) (fun v19 => ?_)
      refine rk_join (β := Int32) (fun (b52 : Int32) ls => lv_has ls 6 [(0, va_rf p0), (1, .int p1), (2, .int p2), (3, .int x3), (4, .int x4)]) (fun (b52 : Int32) ls => F0 m 52 ls [.int b52]) (fun b52 ls hl => ?_) (fun hJ52 => ?_)
      · refine rk_ofs (fun _ _ _ _ _ k => lr_istore hx hb dX3_nextLetting_52 hl (Nat.le_of_ble_eq_true rfl) [0, 1, 2, 3, 4] rfl ⟨trivial, ⟨trivial, ⟨trivial, ⟨trivial, ⟨rfl, trivial⟩⟩⟩⟩⟩ k) (fun ls hl => ?_)
        refine rk_of (fun _ _ _ _ _ k => lv_iload hx hb dX3_nextLetting_54 (lv_at hl 0 rfl) k) ?_
        refine rk_join (β := Int32) (fun (b85 : Int32) ls => lv_has ls 6 [(0, va_rf p0), (1, .int p1), (2, .int p2), (4, .int x4)]) (fun (b85 : Int32) ls => F0 m 85 ls [.int b85]) (fun b85 ls hl => ?_) (fun hJ85 => ?_)
        · refine rk_ofs (fun _ _ _ _ _ k => lr_istore_n hx hb dX3_nextLetting_85 rfl hl (Nat.le_of_ble_eq_true rfl) [0, 1, 2, 3] rfl ⟨trivial, ⟨trivial, ⟨rfl, ⟨trivial, trivial⟩⟩⟩⟩ k) (fun ls hl => ?_)
          refine rk_ofs (fun _ _ _ _ _ k => lr_iinc (v := x4 + 1) hx hb dX3_nextLetting_86 hl (k := 4) rfl rfl (Nat.le_of_ble_eq_true rfl) [0, 1, 2, 3] rfl ⟨rfl, ⟨trivial, ⟨trivial, ⟨trivial, trivial⟩⟩⟩⟩ k) (fun ls hl => ?_)
          refine rk_of (fun _ _ _ _ _ k => lv_goto (tgt := 5) hx hb dX3_nextLetting_89 (by decide) k) ?_
          exact ih b85 (x4 + 1) J ls (lv_sub hl [2, 3, 4, 1, 0] rfl) hJ
        · refine rk_ite (fun _ _ _ _ _ k1 k2 => lv_if_eq (tgt := 84) hx hb dX3_nextLetting_56 (by decide) k1 k2) (fun c_56 => ?_) (fun c_56 => ?_)
          · refine rk_of (fun _ _ _ _ _ k => lv_iload_n hx hb dX3_nextLetting_84 rfl (lv_at hl 4 rfl) k) ?_
            exact hJ85 x3 ls (lv_sub hl [1, 2, 3, 5] rfl)
          · refine rk_ite (fun _ _ _ _ _ k1 k2 => lv_iload_n hx hb dX3_nextLetting_59 rfl (lv_at hl 4 rfl) (lv_if_lt (tgt := 79) hx hb dX3_nextLetting_60 (by decide) k1 k2)) (fun c_60 => ?_) (fun c_60 => ?_)
            · refine rk_of (fun _ _ _ _ _ k => lv_iload hx hb dX3_nextLetting_79 (lv_at hl 5 rfl) (lv_goto (tgt := 85) hx hb dX3_nextLetting_81 (by decide) k)) ?_
              exact hJ85 x4 ls (lv_sub hl [1, 2, 3, 5] rfl)
            · refine rk_of (fun _ _ _ _ _ k => lr_aload_n hx hb dX3_nextLetting_63 rfl (lv_at hl 1 rfl) (lv_iload hx hb dX3_nextLetting_64 (lv_at hl 5 rfl) (lv_iconst (v := 1) hx hb dX3_nextLetting_66 rfl k))) ?_
              refine rk_callI hX (cl_V (rest := []) (av := [.int x4, .int 1]) C (hc_X3 H) (ct_X3_ofLetting H p0 x4 1) (lw_V q2707 q2709 qs54 q112 q2710) ⟨rfl, hd_X3_ofLetting⟩ ⟨(Nat.le_of_ble_eq_true rfl), (Nat.le_of_ble_eq_true rfl)⟩ rfl hl.1 rfl (zw_le zw_nil (Nat.le_of_ble_eq_true rfl)) dX3_nextLetting_67) (fun v67 => ?_)
              refine rk_of (fun _ _ _ _ _ k => lr_aload_n hx hb dX3_nextLetting_70 rfl (lv_at hl 1 rfl) (lv_iload_n hx hb dX3_nextLetting_71 rfl (lv_at hl 4 rfl) (lv_iconst (v := 1) hx hb dX3_nextLetting_72 rfl k))) ?_
              refine rk_callI hX (cl_V (rest := [.int v67]) (av := [.int x3, .int 1]) C (hc_X3 H) (ct_X3_ofLetting H p0 x3 1) (lw_V q2707 q2709 qs54 q112 q2710) ⟨rfl, hd_X3_ofLetting⟩ ⟨(Nat.le_of_ble_eq_true rfl), (Nat.le_of_ble_eq_true rfl)⟩ rfl hl.1 rfl (zw_le (zw_I zw_nil) (Nat.le_of_ble_eq_true rfl)) dX3_nextLetting_73) (fun v73 => ?_)
              refine rk_ite (fun _ _ _ _ _ k1 k2 => lv_icmp_ge (tgt := 84) hx hb dX3_nextLetting_76 (by decide) k1 k2) (fun c_76 => ?_) (fun c_76 => ?_)
              · refine rk_of (fun _ _ _ _ _ k => lv_iload_n hx hb dX3_nextLetting_84 rfl (lv_at hl 4 rfl) k) ?_
                exact hJ85 x3 ls (lv_sub hl [1, 2, 3, 5] rfl)
              · refine rk_of (fun _ _ _ _ _ k => lv_iload hx hb dX3_nextLetting_79 (lv_at hl 5 rfl) (lv_goto (tgt := 85) hx hb dX3_nextLetting_81 (by decide) k)) ?_
                exact hJ85 x4 ls (lv_sub hl [1, 2, 3, 5] rfl)
      · refine rk_ite (fun _ _ _ _ _ k1 k2 => lv_if_ne (tgt := 51) hx hb dX3_nextLetting_22 (by decide) k2 k1) (fun c_22 => ?_) (fun c_22 => ?_)
        · refine rk_of (fun _ _ _ _ _ k => lr_aload_n hx hb dX3_nextLetting_25 rfl (lv_at hl 0 rfl) (lv_iload hx hb dX3_nextLetting_26 (lv_at hl 4 rfl) (lv_iconst (v := 0) hx hb dX3_nextLetting_28 rfl k))) ?_
          refine rk_callI hX (cl_V (rest := []) (av := [.int x4, .int 0]) C (hc_X3 H) (ct_X3_ofLetting H p0 x4 0) (lw_V q2707 q2709 qs54 q112 q2710) ⟨rfl, hd_X3_ofLetting⟩ ⟨(Nat.le_of_ble_eq_true rfl), (Nat.le_of_ble_eq_true rfl)⟩ rfl hl.1 rfl (zw_le zw_nil (Nat.le_of_ble_eq_true rfl)) dX3_nextLetting_29) (fun v29 => ?_)
          refine rk_ite (fun _ _ _ _ _ k1 k2 => lv_iload_n hx hb dX3_nextLetting_32 rfl (lv_at hl 1 rfl) (lv_icmp_ne (tgt := 51) hx hb dX3_nextLetting_33 (by decide) k2 k1)) (fun c_33 => ?_) (fun c_33 => ?_)
          · refine rk_of (fun _ _ _ _ _ k => lr_aload_n hx hb dX3_nextLetting_36 rfl (lv_at hl 0 rfl) (lv_iload hx hb dX3_nextLetting_37 (lv_at hl 4 rfl) (lv_iconst (v := 1) hx hb dX3_nextLetting_39 rfl k))) ?_
            refine rk_callI hX (cl_V (rest := []) (av := [.int x4, .int 1]) C (hc_X3 H) (ct_X3_ofLetting H p0 x4 1) (lw_V q2707 q2709 qs54 q112 q2710) ⟨rfl, hd_X3_ofLetting⟩ ⟨(Nat.le_of_ble_eq_true rfl), (Nat.le_of_ble_eq_true rfl)⟩ rfl hl.1 rfl (zw_le zw_nil (Nat.le_of_ble_eq_true rfl)) dX3_nextLetting_40) (fun v40 => ?_)
            refine rk_ite (fun _ _ _ _ _ k1 k2 => lv_iload_n hx hb dX3_nextLetting_43 rfl (lv_at hl 2 rfl) (lv_icmp_lt (tgt := 51) hx hb dX3_nextLetting_44 (by decide) k1 k2)) (fun c_44 => ?_) (fun c_44 => ?_)
            · refine rk_of (fun _ _ _ _ _ k => lv_iconst (v := 0) hx hb dX3_nextLetting_51 rfl k) ?_
              exact hJ52 0 ls (lv_sub hl [0, 1, 2, 3, 4] rfl)
            · refine rk_of (fun _ _ _ _ _ k => lv_iconst (v := 1) hx hb dX3_nextLetting_47 rfl (lv_goto (tgt := 52) hx hb dX3_nextLetting_48 (by decide) k)) ?_
              exact hJ52 1 ls (lv_sub hl [0, 1, 2, 3, 4] rfl)
          · refine rk_of (fun _ _ _ _ _ k => lv_iconst (v := 0) hx hb dX3_nextLetting_51 rfl k) ?_
            exact hJ52 0 ls (lv_sub hl [0, 1, 2, 3, 4] rfl)
        · refine rk_of (fun _ _ _ _ _ k => lv_iconst (v := 0) hx hb dX3_nextLetting_51 rfl k) ?_
          exact hJ52 0 ls (lv_sub hl [0, 1, 2, 3, 4] rfl)
theorem ct_X3_nextLetting {l : Launch} {Ω : zm_W} {K : zm_K} (H : zm_H Ω K) (a0 : zm_R) (a1 : Int32) (a2 : Int32) : zm_Ct l Ω yX3_nextLetting (ws_ yX3_nextLetting cX3_nextLetting 6 (Option.some Jvm.ClassFile.FieldType.int)) 4 128 [va_rf a0, .int a1, .int a2] zm_tvI (fn_X3_nextLetting K a0 a1 a2) := by
  refine zm_ct H.1 (by decide +kernel) (zl_le (zl_R (zl_I (zl_I zl_nil))) (Nat.le_of_ble_eq_true rfl)) ?_
  intro p e R s m args below meth c n0 k0 C hX ls hl
  have hx := C.1
  have hb := C.2.1
  simp only [zg_I, zg_R, zg_nil] at hl
  have hl : lv_has ls 6 [(0, va_rf a0), (1, .int a1), (2, .int a2)] := hl
  refine rk_rf ?_
  unfold fn_X3_nextLetting
  refine rk_ofs (fun _ _ _ _ _ k => lv_iconst (v := (-1)) hx hb dX3_nextLetting_0 rfl (lr_istore_n hx hb dX3_nextLetting_1 rfl hl (Nat.le_of_ble_eq_true rfl) [0, 1, 2] rfl ⟨trivial, ⟨trivial, ⟨rfl, trivial⟩⟩⟩ k)) (fun ls hl => ?_)
  refine rk_ofs (fun _ _ _ _ _ k => lv_iconst (v := 0) hx hb dX3_nextLetting_2 rfl (lr_istore hx hb dX3_nextLetting_3 hl (Nat.le_of_ble_eq_true rfl) [0, 1, 2, 3] rfl ⟨rfl, ⟨trivial, ⟨trivial, ⟨trivial, trivial⟩⟩⟩⟩ k)) (fun ls hl => ?_)
  refine rk_join (β := Int32) (fun (b92 : Int32) ls => lv_has ls 6 [(3, .int b92)]) (fun (b92 : Int32) ls => F0 m 92 ls []) (fun b92 ls hl => ?_) (fun hJ92 => ?_)
  · refine rk_of (fun _ _ _ _ _ k => lv_iload_n hx hb dX3_nextLetting_92 rfl (lv_at hl 0 rfl) k) ?_
    exact rk_top (rf_iret C rfl dX3_nextLetting_93)
  · exact rf_X3_nextLetting_5 H C hX a0 a1 a2 zm_N (-1) 0 _ ls (lv_sub hl [2, 3, 4, 1, 0] rfl) hJ92
theorem hd_X3_writes : yX3_writes.cls ≠ "java/lang/invoke/MethodHandle" ∧ yX3_writes.cls ≠ "java/lang/invoke/VarHandle" ∧ (parseMethodDescriptor yX3_writes.desc).map (fun d => d.parameters.length) = some 1 := by decide +kernel
noncomputable def fn_X3_writes (K : zm_K) (a0 : zm_R) (a1 : Int32) : zm_M Unit :=
  zm_bnd (zm_getR a0 20 15) fun v1 =>
  zm_bnd (zm_getI a0 20 16) fun v5 =>
  zm_bnd (zm_astI K .int v1 v5 a1) fun _ =>
  zm_bnd (zm_getI a0 20 16) fun v12 =>
  zm_bnd (zm_putF K a0 20 16 (.int (v12 + 1))) fun _ =>
  zm_ret ()
theorem ct_X3_writes {l : Launch} {Ω : zm_W} {K : zm_K} (H : zm_H Ω K) (a0 : zm_R) (a1 : Int32) : zm_Ct l Ω yX3_writes (ws_ yX3_writes cX3_writes 2 (Option.none : Option Jvm.ClassFile.FieldType)) 1 64 [va_rf a0, .int a1] zm_tvV (fn_X3_writes K a0 a1) := by
  refine zm_ct H.1 (by decide +kernel) (zl_le (zl_R (zl_I zl_nil)) (Nat.le_of_ble_eq_true rfl)) ?_
  intro p e R s m args below meth c n0 k0 C hX ls hl
  have hx := C.1
  have hb := C.2.1
  simp only [zg_I, zg_R, zg_nil] at hl
  have hl : lv_has ls 2 [(0, va_rf a0), (1, .int a1)] := hl
  refine rk_rf ?_
  unfold fn_X3_writes
  refine rk_of (fun _ _ _ _ _ k => lr_aload_n hx hb dX3_writes_0 rfl (lv_at hl 0 rfl) k) ?_
  refine rk_get zm_rdR_eq C (hc_X3 H) (k := 15) (Nat.le_of_ble_eq_true rfl) in_X3 q2592 (fun _ h => h) dX3_writes_1 (fun v1 => ?_)
  refine rk_of (fun _ _ _ _ _ k => lr_aload_n hx hb dX3_writes_4 rfl (lv_at hl 0 rfl) k) ?_
  refine rk_get zm_rdI_eq C (hc_X3 H) (k := 16) (Nat.le_of_ble_eq_true rfl) in_X3 q2593 (fun _ h => h) dX3_writes_5 (fun v5 => ?_)
  refine rk_of (fun _ _ _ _ _ k => lv_iload_n hx hb dX3_writes_8 rfl (lv_at hl 1 rfl) k) ?_
  refine rk_iast C H.2.2.1 dX3_writes_9 ?_
  refine rk_of (fun _ _ _ _ _ k => lr_aload_n hx hb dX3_writes_10 rfl (lv_at hl 0 rfl) (lv_dup hx hb dX3_writes_11 (va_rf_cat _) k)) ?_
  refine rk_get zm_rdI_eq C (hc_X3 H) (k := 16) (Nat.le_of_ble_eq_true rfl) in_X3 q2593 (fun _ h => h) dX3_writes_12 (fun v12 => ?_)
  refine rk_of (fun _ _ _ _ _ k => lv_iconst (v := 1) hx hb dX3_writes_15 rfl (lv_iadd hx hb dX3_writes_16 k)) ?_
  refine rk_put C H.2.2.1 (hc_X3 H) (k := 16) (Nat.le_of_ble_eq_true rfl) in_X3 (ty0 := tyX3) tyX3_ok nmX3 q2593 (fun _ h => h) (Or.inl rfl) rfl rfl dX3_writes_17 ?_
  exact rk_top (rf_vret C dX3_writes_20)
theorem hd_X3_number : yX3_number.cls ≠ "java/lang/invoke/MethodHandle" ∧ yX3_number.cls ≠ "java/lang/invoke/VarHandle" ∧ (parseMethodDescriptor yX3_number.desc).map (fun d => d.parameters.length) = some 1 := by decide +kernel
noncomputable def fn_X3_number_r (K : zm_K) : Nat → zm_R → Int32 → zm_M Unit
  | 0, _, _ => zm_fl
  | n + 1, a0, a1 =>
    zm_bnd (α := Unit) (
        if a1 < 10 then
          zm_ret ()
        else
          zm_bnd (zm_grd (¬ (10 : Int32) = 0)) fun _ =>
          zm_bnd (zm_bnd (zm_is a0 20) fun _ => fn_X3_number_r K n a0 (a1 / 10)) fun _ =>
          zm_ret ()
      ) fun (_ : Unit) =>
    zm_bnd (zm_grd (¬ (10 : Int32) = 0)) fun _ =>
    zm_bnd (zm_bnd (zm_is a0 20) fun _ => fn_X3_writes K a0 (48 + (a1 - a1 / 10 * 10))) fun _ =>
    zm_ret ()
noncomputable def fn_X3_number (K : zm_K) (a0 : zm_R) (a1 : Int32) : zm_M Unit := fn_X3_number_r K 5 a0 a1
theorem ctr_X3_number {l : Launch} {Ω : zm_W} {K : zm_K} (H : zm_H Ω K) : ∀ (n : Nat) (a0 : zm_R) (a1 : Int32), zm_Ct l Ω yX3_number (ws_ yX3_number cX3_number 2 (Option.none : Option Jvm.ClassFile.FieldType)) (2 + n) (85 + n * 21) [va_rf a0, .int a1] zm_tvV (fn_X3_number_r K n a0 a1) := by
  intro n
  induction n with
  | zero => intro a0 a1 _ σ o τ h; cases h
  | succ n ih =>
    intro a0 a1
    refine zm_ct H.1 (by decide +kernel) (zl_le (zl_R (zl_I zl_nil)) (Nat.le_of_ble_eq_true rfl)) ?_
    intro p e R s m args below meth c n0 k0 C hX ls hl
    have hx := C.1
    have hb := C.2.1
    simp only [zg_I, zg_R, zg_nil] at hl
    have hl : lv_has ls 2 [(0, va_rf a0), (1, .int a1)] := hl
    refine rk_rf ?_
    unfold fn_X3_number_r
    refine rk_of (fun _ _ _ _ _ k => lv_iload_n hx hb dX3_number_0 rfl (lv_at hl 1 rfl) (lv_bipush (v := 10) hx hb dX3_number_1 rfl k)) ?_
    refine rk_join (β := Unit) (fun (b14 : Unit) ls => lv_has ls 2 [(0, va_rf a0), (1, .int a1)]) (fun (b14 : Unit) ls => F0 m 14 ls []) (fun b14 ls hl => ?_) (fun hJ14 => ?_)
    · refine rk_of (fun _ _ _ _ _ k => lr_aload_n hx hb dX3_number_14 rfl (lv_at hl 0 rfl) (lv_bipush (v := 48) hx hb dX3_number_15 rfl (lv_iload_n hx hb dX3_number_17 rfl (lv_at hl 1 rfl) (lv_bipush (v := 10) hx hb dX3_number_18 rfl k)))) ?_
      refine rk_grd (fun hg_20 => ?_)
      refine rk_of (fun _ _ _ _ _ k => lv_irem hx hb dX3_number_20 hg_20 (lv_iadd hx hb dX3_number_21 k)) ?_
      refine rk_callV hX (cl_V (rest := []) (av := [.int (48 + (a1 - a1 / 10 * 10))]) C (hc_X3 H) (ct_X3_writes H a0 (48 + (a1 - a1 / 10 * 10))) (lw_V q2937 q2939 qs84 q112 q2940) ⟨rfl, hd_X3_writes⟩ ⟨by omega, by omega⟩ rfl hl.1 rfl (zw_le zw_nil (Nat.le_of_ble_eq_true rfl)) dX3_number_22) (fun _ => ?_)
      exact rk_top (rf_vret C dX3_number_25)
    · refine rk_ite (fun _ _ _ _ _ k1 k2 => lv_icmp_lt (tgt := 14) hx hb dX3_number_3 (by decide) k1 k2) (fun c_3 => ?_) (fun c_3 => ?_)
      · exact hJ14 () ls (lv_sub hl [0, 1] rfl)
      · refine rk_of (fun _ _ _ _ _ k => lr_aload_n hx hb dX3_number_6 rfl (lv_at hl 0 rfl) (lv_iload_n hx hb dX3_number_7 rfl (lv_at hl 1 rfl) (lv_bipush (v := 10) hx hb dX3_number_8 rfl k))) ?_
        refine rk_grd (fun hg_10 => ?_)
        refine rk_of (fun _ _ _ _ _ k => lv_idiv hx hb dX3_number_10 hg_10 k) ?_
        refine rk_callV hX (cl_V (rest := []) (av := [.int (a1 / 10)]) C (hc_X3 H) (ih a0 (a1 / 10)) (lw_V q2941 q2943 qs85 q112 q2944) ⟨rfl, hd_X3_number⟩ ⟨by omega, by omega⟩ rfl hl.1 rfl (zw_le zw_nil (Nat.le_of_ble_eq_true rfl)) dX3_number_11) (fun _ => ?_)
        exact hJ14 () ls (lv_sub hl [0, 1] rfl)
theorem ct_X3_number {l : Launch} {Ω : zm_W} {K : zm_K} (H : zm_H Ω K) (a0 : zm_R) (a1 : Int32) : zm_Ct l Ω yX3_number (ws_ yX3_number cX3_number 2 (Option.none : Option Jvm.ClassFile.FieldType)) 7 190 [va_rf a0, .int a1] zm_tvV (fn_X3_number K a0 a1) := ctr_X3_number H 5 a0 a1
theorem hd_X3_describe : yX3_describe.cls ≠ "java/lang/invoke/MethodHandle" ∧ yX3_describe.cls ≠ "java/lang/invoke/VarHandle" ∧ (parseMethodDescriptor yX3_describe.desc).map (fun d => d.parameters.length) = some 1 := by decide +kernel
noncomputable def fn_X3_describe_35 (K : zm_K) (p0 : zm_R) (p1 : Int32) : Nat → Int32 → zm_M (Unit)
  | 0, _ => zm_fl
  | n + 1, x2 =>
    if x2 < 0 then
      zm_ret ()
    else
      zm_bnd (zm_getI p0 20 16) fun v40 =>
      zm_bnd (α := Unit) (
          if v40 ≤ 0 then
            zm_ret ()
          else
            zm_bnd (zm_bnd (zm_is p0 20) fun _ => fn_X3_writes K p0 32) fun _ =>
            zm_ret ()
        ) fun (_ : Unit) =>
      zm_bnd (zm_bnd (zm_is p0 20) fun _ => fn_X3_ofLetting K p0 x2 1) fun v56 =>
      zm_bnd (zm_bnd (zm_is p0 20) fun _ => fn_X3_number K p0 v56) fun _ =>
      zm_bnd (zm_bnd (zm_is p0 20) fun _ => fn_X3_writes K p0 45) fun _ =>
      zm_bnd (zm_bnd (zm_is p0 20) fun _ => fn_X3_ofLetting K p0 x2 2) fun v72 =>
      zm_bnd (zm_bnd (zm_is p0 20) fun _ => fn_X3_number K p0 v72) fun _ =>
      zm_bnd (zm_bnd (zm_is p0 20) fun _ => fn_X3_writes K p0 120) fun _ =>
      zm_bnd (zm_bnd (zm_is p0 20) fun _ => fn_X3_ofLetting K p0 x2 3) fun v88 =>
      zm_bnd (zm_bnd (zm_is p0 20) fun _ => fn_X3_number K p0 v88) fun _ =>
      zm_bnd (zm_bnd (zm_is p0 20) fun _ => fn_X3_ofLetting K p0 x2 2) fun v99 =>
      zm_bnd (zm_bnd (zm_is p0 20) fun _ => fn_X3_nextLetting K p0 p1 v99) fun v102 =>
      fn_X3_describe_35 K p0 p1 n v102
noncomputable def fn_X3_describe (K : zm_K) (a0 : zm_R) (a1 : Int32) : zm_M Int32 :=
  zm_bnd (zm_bnd (zm_is a0 20) fun _ => fn_X3_isBox K a0 a1) fun v3 =>
  zm_bnd (α := Int32) (
      if v3 = 0 then
        zm_ret 1
      else
        zm_ret 0
    ) fun b14 =>
  zm_bnd (zm_bnd (zm_is a0 20) fun _ => fn_X3_isThrown K a0 b14 1) fun v15 =>
  if v15 = 0 then
    zm_bnd (zm_putF K a0 20 16 (.int 0)) fun _ =>
    zm_bnd (zm_bnd (zm_is a0 20) fun _ => fn_X3_nextLetting K a0 a1 0) fun v31 =>
    zm_bnd (α := Unit) (fn_X3_describe_35 K a0 a1 zm_N v31) fun (_ : Unit) =>
    zm_bnd (zm_getI a0 20 16) fun v110 =>
    zm_ret v110
  else
    zm_ret 0
theorem rf_X3_describe_35 (H : zm_H Ω K) (C : zm_C p l R s m args meth c Ω lw_all cX3_describe yX3_describe.cls yX3_describe.name 3 8 211 (Option.some Jvm.ClassFile.FieldType.int)) (hX : zm_XO p l e R s m args below meth c Ω n0 k0 (zm_QFs below args s Ω n0 k0 zm_tvI)) (p0 : zm_R) (p1 : Int32) : ∀ (n : Nat) (x2 : Int32) (J : (Unit) → zm_M Int32) (ls : Array Slot), lv_has ls 3 [(0, va_rf p0), (1, .int p1), (2, .int x2)] → (∀ (b : Unit) (ls : Array Slot), lv_has ls 3 [(0, va_rf p0)] → zm_RK p l e R s m args below meth c Ω n0 k0 (zm_QFs below args s Ω n0 k0 zm_tvI) (zm_ret b) J (F0 m 109 ls [])) → zm_RK p l e R s m args below meth c Ω n0 k0 (zm_QFs below args s Ω n0 k0 zm_tvI) (fn_X3_describe_35 K p0 p1 n x2) J (F0 m 35 ls []) := by
  have hx := C.1
  have hb := C.2.1
  intro n
  induction n with
  | zero => intro x2 J ls hl hJ; exact rk_fl
  | succ n ih =>
    intro x2 J ls hl hJ
    unfold fn_X3_describe_35
    refine rk_ite (fun _ _ _ _ _ k1 k2 => lv_iload_n hx hb dX3_describe_35 rfl (lv_at hl 2 rfl) (lv_if_lt (tgt := 109) hx hb dX3_describe_36 (by decide) k1 k2)) (fun c_36 => ?_) (fun c_36 => ?_)
    · exact hJ () ls (lv_sub hl [0] rfl)
    · refine rk_of (fun _ _ _ _ _ k => lr_aload_n hx hb dX3_describe_39 rfl (lv_at hl 0 rfl) k) ?_
      refine rk_get zm_rdI_eq C (hc_X3 H) (k := 16) (Nat.le_of_ble_eq_true rfl) in_X3 q2593 (fun _ h => h) dX3_describe_40 (fun v40 => ?_)
      refine rk_join (β := Unit) (fun (b52 : Unit) ls => lv_has ls 3 [(0, va_rf p0), (1, .int p1), (2, .int x2)]) (fun (b52 : Unit) ls => F0 m 52 ls []) (fun b52 ls hl => ?_) (fun hJ52 => ?_)
      · refine rk_of (fun _ _ _ _ _ k => lr_aload_n hx hb dX3_describe_52 rfl (lv_at hl 0 rfl) (lr_aload_n hx hb dX3_describe_53 rfl (lv_at hl 0 rfl) (lv_iload_n hx hb dX3_describe_54 rfl (lv_at hl 2 rfl) (lv_iconst (v := 1) hx hb dX3_describe_55 rfl k)))) ?_
        refine rk_callI hX (cl_V (rest := [va_rf p0]) (av := [.int x2, .int 1]) C (hc_X3 H) (ct_X3_ofLetting H p0 x2 1) (lw_V q2707 q2709 qs54 q112 q2710) ⟨rfl, hd_X3_ofLetting⟩ ⟨(Nat.le_of_ble_eq_true rfl), (Nat.le_of_ble_eq_true rfl)⟩ rfl hl.1 rfl (zw_le (zw_R zw_nil) (Nat.le_of_ble_eq_true rfl)) dX3_describe_56) (fun v56 => ?_)
        refine rk_callV hX (cl_V (rest := []) (av := [.int v56]) C (hc_X3 H) (ct_X3_number H p0 v56) (lw_V q2941 q2943 qs85 q112 q2944) ⟨rfl, hd_X3_number⟩ ⟨(Nat.le_of_ble_eq_true rfl), (Nat.le_of_ble_eq_true rfl)⟩ rfl hl.1 rfl (zw_le zw_nil (Nat.le_of_ble_eq_true rfl)) dX3_describe_59) (fun _ => ?_)
        refine rk_of (fun _ _ _ _ _ k => lr_aload_n hx hb dX3_describe_62 rfl (lv_at hl 0 rfl) (lv_bipush (v := 45) hx hb dX3_describe_63 rfl k)) ?_
        refine rk_callV hX (cl_V (rest := []) (av := [.int 45]) C (hc_X3 H) (ct_X3_writes H p0 45) (lw_V q2937 q2939 qs84 q112 q2940) ⟨rfl, hd_X3_writes⟩ ⟨(Nat.le_of_ble_eq_true rfl), (Nat.le_of_ble_eq_true rfl)⟩ rfl hl.1 rfl (zw_le zw_nil (Nat.le_of_ble_eq_true rfl)) dX3_describe_65) (fun _ => ?_)
        refine rk_of (fun _ _ _ _ _ k => lr_aload_n hx hb dX3_describe_68 rfl (lv_at hl 0 rfl) (lr_aload_n hx hb dX3_describe_69 rfl (lv_at hl 0 rfl) (lv_iload_n hx hb dX3_describe_70 rfl (lv_at hl 2 rfl) (lv_iconst (v := 2) hx hb dX3_describe_71 rfl k)))) ?_
        refine rk_callI hX (cl_V (rest := [va_rf p0]) (av := [.int x2, .int 2]) C (hc_X3 H) (ct_X3_ofLetting H p0 x2 2) (lw_V q2707 q2709 qs54 q112 q2710) ⟨rfl, hd_X3_ofLetting⟩ ⟨(Nat.le_of_ble_eq_true rfl), (Nat.le_of_ble_eq_true rfl)⟩ rfl hl.1 rfl (zw_le (zw_R zw_nil) (Nat.le_of_ble_eq_true rfl)) dX3_describe_72) (fun v72 => ?_)
        refine rk_callV hX (cl_V (rest := []) (av := [.int v72]) C (hc_X3 H) (ct_X3_number H p0 v72) (lw_V q2941 q2943 qs85 q112 q2944) ⟨rfl, hd_X3_number⟩ ⟨(Nat.le_of_ble_eq_true rfl), (Nat.le_of_ble_eq_true rfl)⟩ rfl hl.1 rfl (zw_le zw_nil (Nat.le_of_ble_eq_true rfl)) dX3_describe_75) (fun _ => ?_)
        refine rk_of (fun _ _ _ _ _ k => lr_aload_n hx hb dX3_describe_78 rfl (lv_at hl 0 rfl) (lv_bipush (v := 120) hx hb dX3_describe_79 rfl k)) ?_
        refine rk_callV hX (cl_V (rest := []) (av := [.int 120]) C (hc_X3 H) (ct_X3_writes H p0 120) (lw_V q2937 q2939 qs84 q112 q2940) ⟨rfl, hd_X3_writes⟩ ⟨(Nat.le_of_ble_eq_true rfl), (Nat.le_of_ble_eq_true rfl)⟩ rfl hl.1 rfl (zw_le zw_nil (Nat.le_of_ble_eq_true rfl)) dX3_describe_81) (fun _ => ?_)
        refine rk_of (fun _ _ _ _ _ k => lr_aload_n hx hb dX3_describe_84 rfl (lv_at hl 0 rfl) (lr_aload_n hx hb dX3_describe_85 rfl (lv_at hl 0 rfl) (lv_iload_n hx hb dX3_describe_86 rfl (lv_at hl 2 rfl) (lv_iconst (v := 3) hx hb dX3_describe_87 rfl k)))) ?_
        refine rk_callI hX (cl_V (rest := [va_rf p0]) (av := [.int x2, .int 3]) C (hc_X3 H) (ct_X3_ofLetting H p0 x2 3) (lw_V q2707 q2709 qs54 q112 q2710) ⟨rfl, hd_X3_ofLetting⟩ ⟨(Nat.le_of_ble_eq_true rfl), (Nat.le_of_ble_eq_true rfl)⟩ rfl hl.1 rfl (zw_le (zw_R zw_nil) (Nat.le_of_ble_eq_true rfl)) dX3_describe_88) (fun v88 => ?_)
        refine rk_callV hX (cl_V (rest := []) (av := [.int v88]) C (hc_X3 H) (ct_X3_number H p0 v88) (lw_V q2941 q2943 qs85 q112 q2944) ⟨rfl, hd_X3_number⟩ ⟨(Nat.le_of_ble_eq_true rfl), (Nat.le_of_ble_eq_true rfl)⟩ rfl hl.1 rfl (zw_le zw_nil (Nat.le_of_ble_eq_true rfl)) dX3_describe_91) (fun _ => ?_)
        refine rk_of (fun _ _ _ _ _ k => lr_aload_n hx hb dX3_describe_94 rfl (lv_at hl 0 rfl) (lv_iload_n hx hb dX3_describe_95 rfl (lv_at hl 1 rfl) (lr_aload_n hx hb dX3_describe_96 rfl (lv_at hl 0 rfl) (lv_iload_n hx hb dX3_describe_97 rfl (lv_at hl 2 rfl) (lv_iconst (v := 2) hx hb dX3_describe_98 rfl k))))) ?_
        refine rk_callI hX (cl_V (rest := [.int p1, va_rf p0]) (av := [.int x2, .int 2]) C (hc_X3 H) (ct_X3_ofLetting H p0 x2 2) (lw_V q2707 q2709 qs54 q112 q2710) ⟨rfl, hd_X3_ofLetting⟩ ⟨(Nat.le_of_ble_eq_true rfl), (Nat.le_of_ble_eq_true rfl)⟩ rfl hl.1 rfl (zw_le (zw_I (zw_R zw_nil)) (Nat.le_of_ble_eq_true rfl)) dX3_describe_99) (fun v99 => ?_)
        refine rk_callI hX (cl_V (rest := []) (av := [.int p1, .int v99]) C (hc_X3 H) (ct_X3_nextLetting H p0 p1 v99) (lw_V q2933 q2935 qs83 q112 q2936) ⟨rfl, hd_X3_nextLetting⟩ ⟨(Nat.le_of_ble_eq_true rfl), (Nat.le_of_ble_eq_true rfl)⟩ rfl hl.1 rfl (zw_le zw_nil (Nat.le_of_ble_eq_true rfl)) dX3_describe_102) (fun v102 => ?_)
        refine rk_ofs (fun _ _ _ _ _ k => lr_istore_n hx hb dX3_describe_105 rfl hl (Nat.le_of_ble_eq_true rfl) [0, 1] rfl ⟨trivial, ⟨rfl, trivial⟩⟩ k) (fun ls hl => ?_)
        refine rk_of (fun _ _ _ _ _ k => lv_goto (tgt := 35) hx hb dX3_describe_106 (by decide) k) ?_
        exact ih v102 J ls (lv_sub hl [1, 2, 0] rfl) hJ
      · refine rk_ite (fun _ _ _ _ _ k1 k2 => lv_if_le (tgt := 52) hx hb dX3_describe_43 (by decide) k1 k2) (fun c_43 => ?_) (fun c_43 => ?_)
        · exact hJ52 () ls (lv_sub hl [0, 1, 2] rfl)
        · refine rk_of (fun _ _ _ _ _ k => lr_aload_n hx hb dX3_describe_46 rfl (lv_at hl 0 rfl) (lv_bipush (v := 32) hx hb dX3_describe_47 rfl k)) ?_
          refine rk_callV hX (cl_V (rest := []) (av := [.int 32]) C (hc_X3 H) (ct_X3_writes H p0 32) (lw_V q2937 q2939 qs84 q112 q2940) ⟨rfl, hd_X3_writes⟩ ⟨(Nat.le_of_ble_eq_true rfl), (Nat.le_of_ble_eq_true rfl)⟩ rfl hl.1 rfl (zw_le zw_nil (Nat.le_of_ble_eq_true rfl)) dX3_describe_49) (fun _ => ?_)
          exact hJ52 () ls (lv_sub hl [0, 1, 2] rfl)
theorem ct_X3_describe {l : Launch} {Ω : zm_W} {K : zm_K} (H : zm_H Ω K) (a0 : zm_R) (a1 : Int32) : zm_Ct l Ω yX3_describe (ws_ yX3_describe cX3_describe 3 (Option.some Jvm.ClassFile.FieldType.int)) 8 211 [va_rf a0, .int a1] zm_tvI (fn_X3_describe K a0 a1) := by
  refine zm_ct H.1 (by decide +kernel) (zl_le (zl_R (zl_I zl_nil)) (Nat.le_of_ble_eq_true rfl)) ?_
  intro p e R s m args below meth c n0 k0 C hX ls hl
  have hx := C.1
  have hb := C.2.1
  simp only [zg_I, zg_R, zg_nil] at hl
  have hl : lv_has ls 3 [(0, va_rf a0), (1, .int a1)] := hl
  refine rk_rf ?_
  unfold fn_X3_describe
  refine rk_of (fun _ _ _ _ _ k => lr_aload_n hx hb dX3_describe_0 rfl (lv_at hl 0 rfl) (lr_aload_n hx hb dX3_describe_1 rfl (lv_at hl 0 rfl) (lv_iload_n hx hb dX3_describe_2 rfl (lv_at hl 1 rfl) k))) ?_
  refine rk_callI hX (cl_V (rest := [va_rf a0]) (av := [.int a1]) C (hc_X3 H) (ct_X3_isBox H a0 a1) (lw_V q2685 q2687 qs50 q112 q2688) ⟨rfl, hd_X3_isBox⟩ ⟨(Nat.le_of_ble_eq_true rfl), (Nat.le_of_ble_eq_true rfl)⟩ rfl hl.1 rfl (zw_le (zw_R zw_nil) (Nat.le_of_ble_eq_true rfl)) dX3_describe_3) (fun v3 => ?_)
  refine rk_join (β := Int32) (fun (b14 : Int32) ls => lv_has ls 3 [(0, va_rf a0), (1, .int a1)]) (fun (b14 : Int32) ls => F0 m 14 ls [.int b14, va_rf a0]) (fun b14 ls hl => ?_) (fun hJ14 => ?_)
  · refine rk_of (fun _ _ _ _ _ k => lv_iconst (v := 1) hx hb dX3_describe_14 rfl k) ?_
    refine rk_callI hX (cl_V (rest := []) (av := [.int b14, .int 1]) C (hc_X3 H) (ct_X3_isThrown H a0 b14 1) (lw_V q2665 q2667 qs46 q112 q2668) ⟨rfl, hd_X3_isThrown⟩ ⟨(Nat.le_of_ble_eq_true rfl), (Nat.le_of_ble_eq_true rfl)⟩ rfl hl.1 rfl (zw_le zw_nil (Nat.le_of_ble_eq_true rfl)) dX3_describe_15) (fun v15 => ?_)
    refine rk_ite (fun _ _ _ _ _ k1 k2 => lv_if_eq (tgt := 23) hx hb dX3_describe_18 (by decide) k1 k2) (fun c_18 => ?_) (fun c_18 => ?_)
    · refine rk_of (fun _ _ _ _ _ k => lr_aload_n hx hb dX3_describe_23 rfl (lv_at hl 0 rfl) (lv_iconst (v := 0) hx hb dX3_describe_24 rfl k)) ?_
      refine rk_put C H.2.2.1 (hc_X3 H) (k := 16) (Nat.le_of_ble_eq_true rfl) in_X3 (ty0 := tyX3) tyX3_ok nmX3 q2593 (fun _ h => h) (Or.inl rfl) rfl rfl dX3_describe_25 ?_
      refine rk_of (fun _ _ _ _ _ k => lr_aload_n hx hb dX3_describe_28 rfl (lv_at hl 0 rfl) (lv_iload_n hx hb dX3_describe_29 rfl (lv_at hl 1 rfl) (lv_iconst (v := 0) hx hb dX3_describe_30 rfl k))) ?_
      refine rk_callI hX (cl_V (rest := []) (av := [.int a1, .int 0]) C (hc_X3 H) (ct_X3_nextLetting H a0 a1 0) (lw_V q2933 q2935 qs83 q112 q2936) ⟨rfl, hd_X3_nextLetting⟩ ⟨(Nat.le_of_ble_eq_true rfl), (Nat.le_of_ble_eq_true rfl)⟩ rfl hl.1 rfl (zw_le zw_nil (Nat.le_of_ble_eq_true rfl)) dX3_describe_31) (fun v31 => ?_)
      refine rk_ofs (fun _ _ _ _ _ k => lr_istore_n hx hb dX3_describe_34 rfl hl (Nat.le_of_ble_eq_true rfl) [0, 1] rfl ⟨trivial, ⟨rfl, trivial⟩⟩ k) (fun ls hl => ?_)
      refine rk_join (β := Unit) (fun (b109 : Unit) ls => lv_has ls 3 [(0, va_rf a0)]) (fun (b109 : Unit) ls => F0 m 109 ls []) (fun b109 ls hl => ?_) (fun hJ109 => ?_)
      · refine rk_of (fun _ _ _ _ _ k => lr_aload_n hx hb dX3_describe_109 rfl (lv_at hl 0 rfl) k) ?_
        refine rk_get zm_rdI_eq C (hc_X3 H) (k := 16) (Nat.le_of_ble_eq_true rfl) in_X3 q2593 (fun _ h => h) dX3_describe_110 (fun v110 => ?_)
        exact rk_top (rf_iret C rfl dX3_describe_113)
      · exact rf_X3_describe_35 H C hX a0 a1 zm_N v31 _ ls (lv_sub hl [1, 2, 0] rfl) hJ109
    · refine rk_of (fun _ _ _ _ _ k => lv_iconst (v := 0) hx hb dX3_describe_21 rfl k) ?_
      exact rk_top (rf_iret C rfl dX3_describe_22)
  · refine rk_ite (fun _ _ _ _ _ k1 k2 => lv_if_ne (tgt := 13) hx hb dX3_describe_6 (by decide) k2 k1) (fun c_6 => ?_) (fun c_6 => ?_)
    · refine rk_of (fun _ _ _ _ _ k => lv_iconst (v := 1) hx hb dX3_describe_9 rfl (lv_goto (tgt := 14) hx hb dX3_describe_10 (by decide) k)) ?_
      exact hJ14 1 ls (lv_sub hl [0, 1] rfl)
    · refine rk_of (fun _ _ _ _ _ k => lv_iconst (v := 0) hx hb dX3_describe_13 rfl k) ?_
      exact hJ14 0 ls (lv_sub hl [0, 1] rfl)
theorem hd_X3_lets : yX3_lets.cls ≠ "java/lang/invoke/MethodHandle" ∧ yX3_lets.cls ≠ "java/lang/invoke/VarHandle" ∧ (parseMethodDescriptor yX3_lets.desc).map (fun d => d.parameters.length) = some 4 := by decide +kernel
noncomputable def fn_X3_lets (K : zm_K) (a0 : zm_R) (a1 : Int32) (a2 : Int32) (a3 : Int32) (a4 : Int32) : zm_M Int32 :=
  zm_bnd (zm_getR a0 20 0) fun v1 =>
  zm_bnd (zm_aldI .int v1 (6 + a1)) fun v8 =>
  zm_bnd (zm_bnd (zm_is a0 20) fun _ => fn_X3_inTheWay K a0 a1 a3 a4 (-1)) fun v17 =>
  zm_bnd (α := Int32) (
      if a2 ≤ v8 then
        zm_ret 0
      else
        zm_ret 1
    ) fun b34 =>
  zm_bnd (zm_bnd (zm_is a0 20) fun _ => fn_X3_isRefused K a0 b34 2 v8) fun v37 =>
  if v37 = 0 then
    zm_bnd (α := Int32) (
        if v17 < 0 then
          zm_ret 0
        else
          zm_ret 1
      ) fun b54 =>
    zm_bnd (zm_bnd (zm_is a0 20) fun _ => fn_X3_isRefused K a0 b54 3 v17) fun v57 =>
    if v57 = 0 then
      zm_bnd (zm_getR a0 20 0) fun v65 =>
      zm_bnd (zm_aldI .int v65 1) fun v69 =>
      zm_bnd (α := Int32) (
          if v69 = 30 then
            zm_ret 1
          else
            zm_ret 0
        ) fun b80 =>
      zm_bnd (zm_bnd (zm_is a0 20) fun _ => fn_X3_isRefused K a0 b80 1 30) fun v83 =>
      if v83 = 0 then
        zm_bnd (zm_bnd (zm_is a0 20) fun _ => fn_X3_makes K a0 a1 a2 a3 a4) fun v97 =>
        zm_ret v97
      else
        zm_ret 0
    else
      zm_ret 0
  else
    zm_ret 0
theorem ct_X3_lets {l : Launch} {Ω : zm_W} {K : zm_K} (H : zm_H Ω K) (a0 : zm_R) (a1 : Int32) (a2 : Int32) (a3 : Int32) (a4 : Int32) : zm_Ct l Ω yX3_lets (ws_ yX3_lets cX3_lets 7 (Option.some Jvm.ClassFile.FieldType.int)) 5 155 [va_rf a0, .int a1, .int a2, .int a3, .int a4] zm_tvI (fn_X3_lets K a0 a1 a2 a3 a4) := by
  refine zm_ct H.1 (by decide +kernel) (zl_le (zl_R (zl_I (zl_I (zl_I (zl_I zl_nil))))) (Nat.le_of_ble_eq_true rfl)) ?_
  intro p e R s m args below meth c n0 k0 C hX ls hl
  have hx := C.1
  have hb := C.2.1
  simp only [zg_I, zg_R, zg_nil] at hl
  have hl : lv_has ls 7 [(0, va_rf a0), (1, .int a1), (2, .int a2), (3, .int a3), (4, .int a4)] := hl
  refine rk_rf ?_
  unfold fn_X3_lets
  refine rk_of (fun _ _ _ _ _ k => lr_aload_n hx hb dX3_lets_0 rfl (lv_at hl 0 rfl) k) ?_
  refine rk_get zm_rdR_eq C (hc_X3 H) (k := 0) (Nat.le_of_ble_eq_true rfl) in_X3 q2577 (fun _ h => h) dX3_lets_1 (fun v1 => ?_)
  refine rk_of (fun _ _ _ _ _ k => lv_bipush (v := 6) hx hb dX3_lets_4 rfl (lv_iload_n hx hb dX3_lets_6 rfl (lv_at hl 1 rfl) (lv_iadd hx hb dX3_lets_7 k))) ?_
  refine rk_iald C dX3_lets_8 (fun v8 => ?_)
  refine rk_ofs (fun _ _ _ _ _ k => lr_istore hx hb dX3_lets_9 hl (Nat.le_of_ble_eq_true rfl) [0, 1, 2, 3, 4] rfl ⟨trivial, ⟨trivial, ⟨trivial, ⟨trivial, ⟨rfl, trivial⟩⟩⟩⟩⟩ k) (fun ls hl => ?_)
  refine rk_of (fun _ _ _ _ _ k => lr_aload_n hx hb dX3_lets_11 rfl (lv_at hl 1 rfl) (lv_iload_n hx hb dX3_lets_12 rfl (lv_at hl 2 rfl) (lv_iload_n hx hb dX3_lets_13 rfl (lv_at hl 4 rfl) (lv_iload hx hb dX3_lets_14 (lv_at hl 5 rfl) (lv_iconst (v := (-1)) hx hb dX3_lets_16 rfl k))))) ?_
  refine rk_callI hX (cl_V (rest := []) (av := [.int a1, .int a3, .int a4, .int (-1)]) C (hc_X3 H) (ct_X3_inTheWay H a0 a1 a3 a4 (-1)) (lw_V q2699 q2701 qs52 q112 q2702) ⟨rfl, hd_X3_inTheWay⟩ ⟨(Nat.le_of_ble_eq_true rfl), (Nat.le_of_ble_eq_true rfl)⟩ rfl hl.1 rfl (zw_le zw_nil (Nat.le_of_ble_eq_true rfl)) dX3_lets_17) (fun v17 => ?_)
  refine rk_ofs (fun _ _ _ _ _ k => lr_istore hx hb dX3_lets_20 hl (Nat.le_of_ble_eq_true rfl) [0, 1, 2, 3, 4, 5] rfl ⟨rfl, ⟨trivial, ⟨trivial, ⟨trivial, ⟨trivial, ⟨trivial, trivial⟩⟩⟩⟩⟩⟩ k) (fun ls hl => ?_)
  refine rk_of (fun _ _ _ _ _ k => lr_aload_n hx hb dX3_lets_22 rfl (lv_at hl 2 rfl) (lv_iload hx hb dX3_lets_23 (lv_at hl 1 rfl) (lv_iload_n hx hb dX3_lets_25 rfl (lv_at hl 4 rfl) k))) ?_
  refine rk_join (β := Int32) (fun (b34 : Int32) ls => lv_has ls 7 [(0, va_rf a0), (1, .int a1), (2, .int a2), (3, .int a3), (4, .int a4), (5, .int v8), (6, .int v17)]) (fun (b34 : Int32) ls => F0 m 34 ls [.int b34, va_rf a0]) (fun b34 ls hl => ?_) (fun hJ34 => ?_)
  · refine rk_of (fun _ _ _ _ _ k => lv_iconst (v := 2) hx hb dX3_lets_34 rfl (lv_iload hx hb dX3_lets_35 (lv_at hl 5 rfl) k)) ?_
    refine rk_callI hX (cl_V (rest := []) (av := [.int b34, .int 2, .int v8]) C (hc_X3 H) (ct_X3_isRefused H a0 b34 2 v8) (lw_V q2669 q2671 qs47 q112 q2672) ⟨rfl, hd_X3_isRefused⟩ ⟨(Nat.le_of_ble_eq_true rfl), (Nat.le_of_ble_eq_true rfl)⟩ rfl hl.1 rfl (zw_le zw_nil (Nat.le_of_ble_eq_true rfl)) dX3_lets_37) (fun v37 => ?_)
    refine rk_ite (fun _ _ _ _ _ k1 k2 => lv_if_ne (tgt := 89) hx hb dX3_lets_40 (by decide) k2 k1) (fun c_40 => ?_) (fun c_40 => ?_)
    · refine rk_of (fun _ _ _ _ _ k => lr_aload_n hx hb dX3_lets_43 rfl (lv_at hl 0 rfl) (lv_iload hx hb dX3_lets_44 (lv_at hl 6 rfl) k)) ?_
      refine rk_join (β := Int32) (fun (b54 : Int32) ls => lv_has ls 7 [(0, va_rf a0), (1, .int a1), (2, .int a2), (3, .int a3), (4, .int a4), (6, .int v17)]) (fun (b54 : Int32) ls => F0 m 54 ls [.int b54, va_rf a0]) (fun b54 ls hl => ?_) (fun hJ54 => ?_)
      · refine rk_of (fun _ _ _ _ _ k => lv_iconst (v := 3) hx hb dX3_lets_54 rfl (lv_iload hx hb dX3_lets_55 (lv_at hl 5 rfl) k)) ?_
        refine rk_callI hX (cl_V (rest := []) (av := [.int b54, .int 3, .int v17]) C (hc_X3 H) (ct_X3_isRefused H a0 b54 3 v17) (lw_V q2669 q2671 qs47 q112 q2672) ⟨rfl, hd_X3_isRefused⟩ ⟨(Nat.le_of_ble_eq_true rfl), (Nat.le_of_ble_eq_true rfl)⟩ rfl hl.1 rfl (zw_le zw_nil (Nat.le_of_ble_eq_true rfl)) dX3_lets_57) (fun v57 => ?_)
        refine rk_ite (fun _ _ _ _ _ k1 k2 => lv_if_ne (tgt := 89) hx hb dX3_lets_60 (by decide) k2 k1) (fun c_60 => ?_) (fun c_60 => ?_)
        · refine rk_of (fun _ _ _ _ _ k => lr_aload_n hx hb dX3_lets_63 rfl (lv_at hl 0 rfl) (lr_aload_n hx hb dX3_lets_64 rfl (lv_at hl 0 rfl) k)) ?_
          refine rk_get zm_rdR_eq C (hc_X3 H) (k := 0) (Nat.le_of_ble_eq_true rfl) in_X3 q2577 (fun _ h => h) dX3_lets_65 (fun v65 => ?_)
          refine rk_of (fun _ _ _ _ _ k => lv_iconst (v := 1) hx hb dX3_lets_68 rfl k) ?_
          refine rk_iald C dX3_lets_69 (fun v69 => ?_)
          refine rk_of (fun _ _ _ _ _ k => lv_bipush (v := 30) hx hb dX3_lets_70 rfl k) ?_
          refine rk_join (β := Int32) (fun (b80 : Int32) ls => lv_has ls 7 [(0, va_rf a0), (1, .int a1), (2, .int a2), (3, .int a3), (4, .int a4)]) (fun (b80 : Int32) ls => F0 m 80 ls [.int b80, va_rf a0]) (fun b80 ls hl => ?_) (fun hJ80 => ?_)
          · refine rk_of (fun _ _ _ _ _ k => lv_iconst (v := 1) hx hb dX3_lets_80 rfl (lv_bipush (v := 30) hx hb dX3_lets_81 rfl k)) ?_
            refine rk_callI hX (cl_V (rest := []) (av := [.int b80, .int 1, .int 30]) C (hc_X3 H) (ct_X3_isRefused H a0 b80 1 30) (lw_V q2669 q2671 qs47 q112 q2672) ⟨rfl, hd_X3_isRefused⟩ ⟨(Nat.le_of_ble_eq_true rfl), (Nat.le_of_ble_eq_true rfl)⟩ rfl hl.1 rfl (zw_le zw_nil (Nat.le_of_ble_eq_true rfl)) dX3_lets_83) (fun v83 => ?_)
            refine rk_ite (fun _ _ _ _ _ k1 k2 => lv_if_eq (tgt := 91) hx hb dX3_lets_86 (by decide) k1 k2) (fun c_86 => ?_) (fun c_86 => ?_)
            · refine rk_of (fun _ _ _ _ _ k => lr_aload_n hx hb dX3_lets_91 rfl (lv_at hl 0 rfl) (lv_iload_n hx hb dX3_lets_92 rfl (lv_at hl 1 rfl) (lv_iload_n hx hb dX3_lets_93 rfl (lv_at hl 2 rfl) (lv_iload_n hx hb dX3_lets_94 rfl (lv_at hl 3 rfl) (lv_iload hx hb dX3_lets_95 (lv_at hl 4 rfl) k))))) ?_
              refine rk_callI hX (cl_V (rest := []) (av := [.int a1, .int a2, .int a3, .int a4]) C (hc_X3 H) (ct_X3_makes H a0 a1 a2 a3 a4) (lw_V q2714 q2716 qs55 q112 q2717) ⟨rfl, hd_X3_makes⟩ ⟨(Nat.le_of_ble_eq_true rfl), (Nat.le_of_ble_eq_true rfl)⟩ rfl hl.1 rfl (zw_le zw_nil (Nat.le_of_ble_eq_true rfl)) dX3_lets_97) (fun v97 => ?_)
              exact rk_top (rf_iret C rfl dX3_lets_100)
            · refine rk_of (fun _ _ _ _ _ k => lv_iconst (v := 0) hx hb dX3_lets_89 rfl k) ?_
              exact rk_top (rf_iret C rfl dX3_lets_90)
          · refine rk_ite (fun _ _ _ _ _ k1 k2 => lv_icmp_ne (tgt := 79) hx hb dX3_lets_72 (by decide) k2 k1) (fun c_72 => ?_) (fun c_72 => ?_)
            · refine rk_of (fun _ _ _ _ _ k => lv_iconst (v := 1) hx hb dX3_lets_75 rfl (lv_goto (tgt := 80) hx hb dX3_lets_76 (by decide) k)) ?_
              exact hJ80 1 ls (lv_sub hl [0, 1, 2, 3, 4] rfl)
            · refine rk_of (fun _ _ _ _ _ k => lv_iconst (v := 0) hx hb dX3_lets_79 rfl k) ?_
              exact hJ80 0 ls (lv_sub hl [0, 1, 2, 3, 4] rfl)
        · refine rk_of (fun _ _ _ _ _ k => lv_iconst (v := 0) hx hb dX3_lets_89 rfl k) ?_
          exact rk_top (rf_iret C rfl dX3_lets_90)
      · refine rk_ite (fun _ _ _ _ _ k1 k2 => lv_if_lt (tgt := 53) hx hb dX3_lets_46 (by decide) k1 k2) (fun c_46 => ?_) (fun c_46 => ?_)
        · refine rk_of (fun _ _ _ _ _ k => lv_iconst (v := 0) hx hb dX3_lets_53 rfl k) ?_
          exact hJ54 0 ls (lv_sub hl [0, 1, 2, 3, 4, 6] rfl)
        · refine rk_of (fun _ _ _ _ _ k => lv_iconst (v := 1) hx hb dX3_lets_49 rfl (lv_goto (tgt := 54) hx hb dX3_lets_50 (by decide) k)) ?_
          exact hJ54 1 ls (lv_sub hl [0, 1, 2, 3, 4, 6] rfl)
    · refine rk_of (fun _ _ _ _ _ k => lv_iconst (v := 0) hx hb dX3_lets_89 rfl k) ?_
      exact rk_top (rf_iret C rfl dX3_lets_90)
  · refine rk_ite (fun _ _ _ _ _ k1 k2 => lv_icmp_ge (tgt := 33) hx hb dX3_lets_26 (by decide) k1 k2) (fun c_26 => ?_) (fun c_26 => ?_)
    · refine rk_of (fun _ _ _ _ _ k => lv_iconst (v := 0) hx hb dX3_lets_33 rfl k) ?_
      exact hJ34 0 ls (lv_sub hl [2, 3, 4, 5, 6, 1, 0] rfl)
    · refine rk_of (fun _ _ _ _ _ k => lv_iconst (v := 1) hx hb dX3_lets_29 rfl (lv_goto (tgt := 34) hx hb dX3_lets_30 (by decide) k)) ?_
      exact hJ34 1 ls (lv_sub hl [2, 3, 4, 5, 6, 1, 0] rfl)
theorem hd_X3_moves : yX3_moves.cls ≠ "java/lang/invoke/MethodHandle" ∧ yX3_moves.cls ≠ "java/lang/invoke/VarHandle" ∧ (parseMethodDescriptor yX3_moves.desc).map (fun d => d.parameters.length) = some 2 := by decide +kernel
noncomputable def fn_X3_moves (K : zm_K) (a0 : zm_R) (a1 : Int32) (a2 : Int32) : zm_M Int32 :=
  zm_bnd (zm_bnd (zm_is a0 20) fun _ => fn_X3_isRefusedAsOver K a0 a1) fun v2 =>
  if v2 = 0 then
    zm_bnd (zm_bnd (zm_is a0 20) fun _ => fn_X3_ofLetting K a0 a1 1) fun v13 =>
    zm_bnd (zm_bnd (zm_is a0 20) fun _ => fn_X3_ofLetting K a0 a1 2) fun v22 =>
    zm_bnd (fn_X3_lesser K 600 (v22 + a2)) fun v35 =>
    zm_bnd (fn_X3_greater K 0 (v13 + a2)) fun v40 =>
    zm_bnd (fn_X3_greater K 0 (v35 - v40)) fun v44 =>
    zm_bnd (α := Int32) (
        if (((v22 + a2) - (v13 + a2)) - v44) ≤ 0 then
          zm_ret 0
        else
          zm_ret 1
      ) fun b69 =>
    zm_bnd (zm_bnd (zm_is a0 20) fun _ => fn_X3_isRefused K a0 b69 5 (((v22 + a2) - (v13 + a2)) - v44)) fun v72 =>
    if v72 = 0 then
      zm_bnd (zm_bnd (zm_is a0 20) fun _ => fn_X3_ofLetting K a0 a1 0) fun v84 =>
      zm_bnd (zm_bnd (zm_is a0 20) fun _ => fn_X3_inTheWay K a0 v84 (v13 + a2) (v22 + a2) a1) fun v91 =>
      zm_bnd (α := Int32) (
          if v91 < 0 then
            zm_ret 0
          else
            zm_ret 1
        ) fun b107 =>
      zm_bnd (zm_bnd (zm_is a0 20) fun _ => fn_X3_isRefused K a0 b107 3 v91) fun v110 =>
      if v110 = 0 then
        zm_bnd (zm_getR a0 20 0) fun v119 =>
        zm_bnd (fn_X3_lettingAt K a1 1) fun v124 =>
        zm_bnd (zm_astI K .int v119 v124 (v13 + a2)) fun _ =>
        zm_bnd (zm_getR a0 20 0) fun v130 =>
        zm_bnd (fn_X3_lettingAt K a1 2) fun v135 =>
        zm_bnd (zm_astI K .int v130 v135 (v22 + a2)) fun _ =>
        zm_ret (v13 + a2)
      else
        zm_ret 0
    else
      zm_ret 0
  else
    zm_ret 0
theorem ct_X3_moves {l : Launch} {Ω : zm_W} {K : zm_K} (H : zm_H Ω K) (a0 : zm_R) (a1 : Int32) (a2 : Int32) : zm_Ct l Ω yX3_moves (ws_ yX3_moves cX3_moves 8 (Option.some Jvm.ClassFile.FieldType.int)) 5 155 [va_rf a0, .int a1, .int a2] zm_tvI (fn_X3_moves K a0 a1 a2) := by
  refine zm_ct H.1 (by decide +kernel) (zl_le (zl_R (zl_I (zl_I zl_nil))) (Nat.le_of_ble_eq_true rfl)) ?_
  intro p e R s m args below meth c n0 k0 C hX ls hl
  have hx := C.1
  have hb := C.2.1
  simp only [zg_I, zg_R, zg_nil] at hl
  have hl : lv_has ls 8 [(0, va_rf a0), (1, .int a1), (2, .int a2)] := hl
  refine rk_rf ?_
  unfold fn_X3_moves
  refine rk_of (fun _ _ _ _ _ k => lr_aload_n hx hb dX3_moves_0 rfl (lv_at hl 0 rfl) (lv_iload_n hx hb dX3_moves_1 rfl (lv_at hl 1 rfl) k)) ?_
  refine rk_callI hX (cl_V (rest := []) (av := [.int a1]) C (hc_X3 H) (ct_X3_isRefusedAsOver H a0 a1) (lw_V q2730 q2732 qs58 q112 q2733) ⟨rfl, hd_X3_isRefusedAsOver⟩ ⟨(Nat.le_of_ble_eq_true rfl), (Nat.le_of_ble_eq_true rfl)⟩ rfl hl.1 rfl (zw_le zw_nil (Nat.le_of_ble_eq_true rfl)) dX3_moves_2) (fun v2 => ?_)
  refine rk_ite (fun _ _ _ _ _ k1 k2 => lv_if_eq (tgt := 10) hx hb dX3_moves_5 (by decide) k1 k2) (fun c_5 => ?_) (fun c_5 => ?_)
  · refine rk_of (fun _ _ _ _ _ k => lr_aload_n hx hb dX3_moves_10 rfl (lv_at hl 0 rfl) (lv_iload_n hx hb dX3_moves_11 rfl (lv_at hl 1 rfl) (lv_iconst (v := 1) hx hb dX3_moves_12 rfl k))) ?_
    refine rk_callI hX (cl_V (rest := []) (av := [.int a1, .int 1]) C (hc_X3 H) (ct_X3_ofLetting H a0 a1 1) (lw_V q2707 q2709 qs54 q112 q2710) ⟨rfl, hd_X3_ofLetting⟩ ⟨(Nat.le_of_ble_eq_true rfl), (Nat.le_of_ble_eq_true rfl)⟩ rfl hl.1 rfl (zw_le zw_nil (Nat.le_of_ble_eq_true rfl)) dX3_moves_13) (fun v13 => ?_)
    refine rk_ofs (fun _ _ _ _ _ k => lv_iload_n hx hb dX3_moves_16 rfl (lv_at hl 2 rfl) (lv_iadd hx hb dX3_moves_17 (lr_istore_n hx hb dX3_moves_18 rfl hl (Nat.le_of_ble_eq_true rfl) [0, 1, 2] rfl ⟨trivial, ⟨trivial, ⟨rfl, trivial⟩⟩⟩ k))) (fun ls hl => ?_)
    refine rk_of (fun _ _ _ _ _ k => lr_aload_n hx hb dX3_moves_19 rfl (lv_at hl 1 rfl) (lv_iload_n hx hb dX3_moves_20 rfl (lv_at hl 2 rfl) (lv_iconst (v := 2) hx hb dX3_moves_21 rfl k))) ?_
    refine rk_callI hX (cl_V (rest := []) (av := [.int a1, .int 2]) C (hc_X3 H) (ct_X3_ofLetting H a0 a1 2) (lw_V q2707 q2709 qs54 q112 q2710) ⟨rfl, hd_X3_ofLetting⟩ ⟨(Nat.le_of_ble_eq_true rfl), (Nat.le_of_ble_eq_true rfl)⟩ rfl hl.1 rfl (zw_le zw_nil (Nat.le_of_ble_eq_true rfl)) dX3_moves_22) (fun v22 => ?_)
    refine rk_ofs (fun _ _ _ _ _ k => lv_iload_n hx hb dX3_moves_25 rfl (lv_at hl 3 rfl) (lv_iadd hx hb dX3_moves_26 (lr_istore hx hb dX3_moves_27 hl (Nat.le_of_ble_eq_true rfl) [0, 1, 2] rfl ⟨rfl, ⟨trivial, ⟨trivial, trivial⟩⟩⟩ k))) (fun ls hl => ?_)
    refine rk_of (fun _ _ _ _ _ k => lv_iconst (v := 0) hx hb dX3_moves_29 rfl (lv_sipush (v := 600) hx hb dX3_moves_30 rfl (lv_iload hx hb dX3_moves_33 (lv_at hl 0 rfl) k))) ?_
    refine rk_callI hX (cl_S (rest := [.int 0]) C (ct_X3_lesser H 600 (v22 + a2)) (lw_S q2753 q2754 q112 q2755) hd_X3_lesser ⟨(Nat.le_of_ble_eq_true rfl), (Nat.le_of_ble_eq_true rfl)⟩ rfl hl.1 rfl (zw_le (zw_I zw_nil) (Nat.le_of_ble_eq_true rfl)) dX3_moves_35) (fun v35 => ?_)
    refine rk_of (fun _ _ _ _ _ k => lv_iconst (v := 0) hx hb dX3_moves_38 rfl (lv_iload_n hx hb dX3_moves_39 rfl (lv_at hl 1 rfl) k)) ?_
    refine rk_callI hX (cl_S (rest := [.int v35, .int 0]) C (ct_X3_greater H 0 (v13 + a2)) (lw_S q2756 q2757 q112 q2758) hd_X3_greater ⟨(Nat.le_of_ble_eq_true rfl), (Nat.le_of_ble_eq_true rfl)⟩ rfl hl.1 rfl (zw_le (zw_I (zw_I zw_nil)) (Nat.le_of_ble_eq_true rfl)) dX3_moves_40) (fun v40 => ?_)
    refine rk_of (fun _ _ _ _ _ k => lv_isub hx hb dX3_moves_43 k) ?_
    refine rk_callI hX (cl_S (rest := []) C (ct_X3_greater H 0 (v35 - v40)) (lw_S q2756 q2757 q112 q2758) hd_X3_greater ⟨(Nat.le_of_ble_eq_true rfl), (Nat.le_of_ble_eq_true rfl)⟩ rfl hl.1 rfl (zw_le zw_nil (Nat.le_of_ble_eq_true rfl)) dX3_moves_44) (fun v44 => ?_)
    refine rk_ofs (fun _ _ _ _ _ k => lr_istore hx hb dX3_moves_47 hl (Nat.le_of_ble_eq_true rfl) [0, 1, 2, 3] rfl ⟨rfl, ⟨trivial, ⟨trivial, ⟨trivial, trivial⟩⟩⟩⟩ k) (fun ls hl => ?_)
    refine rk_ofs (fun _ _ _ _ _ k => lv_iload hx hb dX3_moves_49 (lv_at hl 1 rfl) (lv_iload_n hx hb dX3_moves_51 rfl (lv_at hl 2 rfl) (lv_isub hx hb dX3_moves_52 (lv_iload hx hb dX3_moves_53 (lv_at hl 0 rfl) (lv_isub hx hb dX3_moves_55 (lr_istore hx hb dX3_moves_56 hl (Nat.le_of_ble_eq_true rfl) [1, 2, 3, 4] rfl ⟨trivial, ⟨trivial, ⟨trivial, ⟨trivial, trivial⟩⟩⟩⟩ k)))))) (fun ls hl => ?_)
    refine rk_of (fun _ _ _ _ _ k => lr_aload_n hx hb dX3_moves_58 rfl (lv_at hl 3 rfl) (lv_iload hx hb dX3_moves_59 (lv_at hl 0 rfl) k)) ?_
    refine rk_join (β := Int32) (fun (b69 : Int32) ls => lv_has ls 8 [(0, va_rf a0), (1, .int a1), (3, .int (v13 + a2)), (4, .int (v22 + a2)), (6, .int (((v22 + a2) - (v13 + a2)) - v44))]) (fun (b69 : Int32) ls => F0 m 69 ls [.int b69, va_rf a0]) (fun b69 ls hl => ?_) (fun hJ69 => ?_)
    · refine rk_of (fun _ _ _ _ _ k => lv_iconst (v := 5) hx hb dX3_moves_69 rfl (lv_iload hx hb dX3_moves_70 (lv_at hl 4 rfl) k)) ?_
      refine rk_callI hX (cl_V (rest := []) (av := [.int b69, .int 5, .int (((v22 + a2) - (v13 + a2)) - v44)]) C (hc_X3 H) (ct_X3_isRefused H a0 b69 5 (((v22 + a2) - (v13 + a2)) - v44)) (lw_V q2669 q2671 qs47 q112 q2672) ⟨rfl, hd_X3_isRefused⟩ ⟨(Nat.le_of_ble_eq_true rfl), (Nat.le_of_ble_eq_true rfl)⟩ rfl hl.1 rfl (zw_le zw_nil (Nat.le_of_ble_eq_true rfl)) dX3_moves_72) (fun v72 => ?_)
      refine rk_ite (fun _ _ _ _ _ k1 k2 => lv_if_eq (tgt := 80) hx hb dX3_moves_75 (by decide) k1 k2) (fun c_75 => ?_) (fun c_75 => ?_)
      · refine rk_of (fun _ _ _ _ _ k => lr_aload_n hx hb dX3_moves_80 rfl (lv_at hl 0 rfl) (lr_aload_n hx hb dX3_moves_81 rfl (lv_at hl 0 rfl) (lv_iload_n hx hb dX3_moves_82 rfl (lv_at hl 1 rfl) (lv_iconst (v := 0) hx hb dX3_moves_83 rfl k)))) ?_
        refine rk_callI hX (cl_V (rest := [va_rf a0]) (av := [.int a1, .int 0]) C (hc_X3 H) (ct_X3_ofLetting H a0 a1 0) (lw_V q2707 q2709 qs54 q112 q2710) ⟨rfl, hd_X3_ofLetting⟩ ⟨(Nat.le_of_ble_eq_true rfl), (Nat.le_of_ble_eq_true rfl)⟩ rfl hl.1 rfl (zw_le (zw_R zw_nil) (Nat.le_of_ble_eq_true rfl)) dX3_moves_84) (fun v84 => ?_)
        refine rk_of (fun _ _ _ _ _ k => lv_iload_n hx hb dX3_moves_87 rfl (lv_at hl 2 rfl) (lv_iload hx hb dX3_moves_88 (lv_at hl 3 rfl) (lv_iload_n hx hb dX3_moves_90 rfl (lv_at hl 1 rfl) k))) ?_
        refine rk_callI hX (cl_V (rest := []) (av := [.int v84, .int (v13 + a2), .int (v22 + a2), .int a1]) C (hc_X3 H) (ct_X3_inTheWay H a0 v84 (v13 + a2) (v22 + a2) a1) (lw_V q2699 q2701 qs52 q112 q2702) ⟨rfl, hd_X3_inTheWay⟩ ⟨(Nat.le_of_ble_eq_true rfl), (Nat.le_of_ble_eq_true rfl)⟩ rfl hl.1 rfl (zw_le zw_nil (Nat.le_of_ble_eq_true rfl)) dX3_moves_91) (fun v91 => ?_)
        refine rk_ofs (fun _ _ _ _ _ k => lr_istore hx hb dX3_moves_94 hl (Nat.le_of_ble_eq_true rfl) [0, 1, 2, 3] rfl ⟨trivial, ⟨trivial, ⟨trivial, ⟨trivial, trivial⟩⟩⟩⟩ k) (fun ls hl => ?_)
        refine rk_of (fun _ _ _ _ _ k => lr_aload_n hx hb dX3_moves_96 rfl (lv_at hl 1 rfl) (lv_iload hx hb dX3_moves_97 (lv_at hl 0 rfl) k)) ?_
        refine rk_join (β := Int32) (fun (b107 : Int32) ls => lv_has ls 8 [(0, va_rf a0), (1, .int a1), (3, .int (v13 + a2)), (4, .int (v22 + a2)), (7, .int v91)]) (fun (b107 : Int32) ls => F0 m 107 ls [.int b107, va_rf a0]) (fun b107 ls hl => ?_) (fun hJ107 => ?_)
        · refine rk_of (fun _ _ _ _ _ k => lv_iconst (v := 3) hx hb dX3_moves_107 rfl (lv_iload hx hb dX3_moves_108 (lv_at hl 4 rfl) k)) ?_
          refine rk_callI hX (cl_V (rest := []) (av := [.int b107, .int 3, .int v91]) C (hc_X3 H) (ct_X3_isRefused H a0 b107 3 v91) (lw_V q2669 q2671 qs47 q112 q2672) ⟨rfl, hd_X3_isRefused⟩ ⟨(Nat.le_of_ble_eq_true rfl), (Nat.le_of_ble_eq_true rfl)⟩ rfl hl.1 rfl (zw_le zw_nil (Nat.le_of_ble_eq_true rfl)) dX3_moves_110) (fun v110 => ?_)
          refine rk_ite (fun _ _ _ _ _ k1 k2 => lv_if_eq (tgt := 118) hx hb dX3_moves_113 (by decide) k1 k2) (fun c_113 => ?_) (fun c_113 => ?_)
          · refine rk_of (fun _ _ _ _ _ k => lr_aload_n hx hb dX3_moves_118 rfl (lv_at hl 0 rfl) k) ?_
            refine rk_get zm_rdR_eq C (hc_X3 H) (k := 0) (Nat.le_of_ble_eq_true rfl) in_X3 q2577 (fun _ h => h) dX3_moves_119 (fun v119 => ?_)
            refine rk_of (fun _ _ _ _ _ k => lv_iload_n hx hb dX3_moves_122 rfl (lv_at hl 1 rfl) (lv_iconst (v := 1) hx hb dX3_moves_123 rfl k)) ?_
            refine rk_callI hX (cl_S (rest := [va_rf v119]) C (ct_X3_lettingAt H a1 1) (lw_S q2711 q2712 q112 q2713) hd_X3_lettingAt ⟨(Nat.le_of_ble_eq_true rfl), (Nat.le_of_ble_eq_true rfl)⟩ rfl hl.1 rfl (zw_le (zw_R zw_nil) (Nat.le_of_ble_eq_true rfl)) dX3_moves_124) (fun v124 => ?_)
            refine rk_of (fun _ _ _ _ _ k => lv_iload_n hx hb dX3_moves_127 rfl (lv_at hl 2 rfl) k) ?_
            refine rk_iast C H.2.2.1 dX3_moves_128 ?_
            refine rk_of (fun _ _ _ _ _ k => lr_aload_n hx hb dX3_moves_129 rfl (lv_at hl 0 rfl) k) ?_
            refine rk_get zm_rdR_eq C (hc_X3 H) (k := 0) (Nat.le_of_ble_eq_true rfl) in_X3 q2577 (fun _ h => h) dX3_moves_130 (fun v130 => ?_)
            refine rk_of (fun _ _ _ _ _ k => lv_iload_n hx hb dX3_moves_133 rfl (lv_at hl 1 rfl) (lv_iconst (v := 2) hx hb dX3_moves_134 rfl k)) ?_
            refine rk_callI hX (cl_S (rest := [va_rf v130]) C (ct_X3_lettingAt H a1 2) (lw_S q2711 q2712 q112 q2713) hd_X3_lettingAt ⟨(Nat.le_of_ble_eq_true rfl), (Nat.le_of_ble_eq_true rfl)⟩ rfl hl.1 rfl (zw_le (zw_R zw_nil) (Nat.le_of_ble_eq_true rfl)) dX3_moves_135) (fun v135 => ?_)
            refine rk_of (fun _ _ _ _ _ k => lv_iload hx hb dX3_moves_138 (lv_at hl 3 rfl) k) ?_
            refine rk_iast C H.2.2.1 dX3_moves_140 ?_
            refine rk_of (fun _ _ _ _ _ k => lv_iload_n hx hb dX3_moves_141 rfl (lv_at hl 2 rfl) k) ?_
            exact rk_top (rf_iret C rfl dX3_moves_142)
          · refine rk_of (fun _ _ _ _ _ k => lv_iconst (v := 0) hx hb dX3_moves_116 rfl k) ?_
            exact rk_top (rf_iret C rfl dX3_moves_117)
        · refine rk_ite (fun _ _ _ _ _ k1 k2 => lv_if_lt (tgt := 106) hx hb dX3_moves_99 (by decide) k1 k2) (fun c_99 => ?_) (fun c_99 => ?_)
          · refine rk_of (fun _ _ _ _ _ k => lv_iconst (v := 0) hx hb dX3_moves_106 rfl k) ?_
            exact hJ107 0 ls (lv_sub hl [1, 2, 3, 4, 0] rfl)
          · refine rk_of (fun _ _ _ _ _ k => lv_iconst (v := 1) hx hb dX3_moves_102 rfl (lv_goto (tgt := 107) hx hb dX3_moves_103 (by decide) k)) ?_
            exact hJ107 1 ls (lv_sub hl [1, 2, 3, 4, 0] rfl)
      · refine rk_of (fun _ _ _ _ _ k => lv_iconst (v := 0) hx hb dX3_moves_78 rfl k) ?_
        exact rk_top (rf_iret C rfl dX3_moves_79)
    · refine rk_ite (fun _ _ _ _ _ k1 k2 => lv_if_le (tgt := 68) hx hb dX3_moves_61 (by decide) k1 k2) (fun c_61 => ?_) (fun c_61 => ?_)
      · refine rk_of (fun _ _ _ _ _ k => lv_iconst (v := 0) hx hb dX3_moves_68 rfl k) ?_
        exact hJ69 0 ls (lv_sub hl [3, 4, 2, 1, 0] rfl)
      · refine rk_of (fun _ _ _ _ _ k => lv_iconst (v := 1) hx hb dX3_moves_64 rfl (lv_goto (tgt := 69) hx hb dX3_moves_65 (by decide) k)) ?_
        exact hJ69 1 ls (lv_sub hl [3, 4, 2, 1, 0] rfl)
  · refine rk_of (fun _ _ _ _ _ k => lv_iconst (v := 0) hx hb dX3_moves_8 rfl k) ?_
    exact rk_top (rf_iret C rfl dX3_moves_9)
theorem hd_X3_splits : yX3_splits.cls ≠ "java/lang/invoke/MethodHandle" ∧ yX3_splits.cls ≠ "java/lang/invoke/VarHandle" ∧ (parseMethodDescriptor yX3_splits.desc).map (fun d => d.parameters.length) = some 2 := by decide +kernel
noncomputable def fn_X3_splits (K : zm_K) (a0 : zm_R) (a1 : Int32) (a2 : Int32) : zm_M Int32 :=
  zm_bnd (zm_bnd (zm_is a0 20) fun _ => fn_X3_isRefusedAsOver K a0 a1) fun v2 =>
  if v2 = 0 then
    zm_bnd (zm_bnd (zm_is a0 20) fun _ => fn_X3_ofLetting K a0 a1 2) fun v13 =>
    zm_bnd (zm_bnd (zm_is a0 20) fun _ => fn_X3_ofLetting K a0 a1 1) fun v21 =>
    zm_bnd (fn_X3_isIn K a2 (v21 + 1) (v13 - 1)) fun v29 =>
    zm_bnd (α := Int32) (
        if v29 = 0 then
          zm_ret 1
        else
          zm_ret 0
      ) fun b45 =>
    zm_bnd (zm_bnd (zm_is a0 20) fun _ => fn_X3_minutesOf K a0 a1) fun v49 =>
    zm_bnd (zm_bnd (zm_is a0 20) fun _ => fn_X3_isRefused K a0 b45 6 v49) fun v52 =>
    if v52 = 0 then
      zm_bnd (zm_getR a0 20 0) fun v60 =>
      zm_bnd (zm_aldI .int v60 1) fun v64 =>
      zm_bnd (α := Int32) (
          if v64 = 30 then
            zm_ret 1
          else
            zm_ret 0
        ) fun b75 =>
      zm_bnd (zm_bnd (zm_is a0 20) fun _ => fn_X3_isRefused K a0 b75 1 30) fun v78 =>
      if v78 = 0 then
        zm_bnd (zm_getR a0 20 0) fun v87 =>
        zm_bnd (fn_X3_lettingAt K a1 2) fun v92 =>
        zm_bnd (zm_astI K .int v87 v92 a2) fun _ =>
        zm_bnd (zm_bnd (zm_is a0 20) fun _ => fn_X3_ofLetting K a0 a1 0) fun v101 =>
        zm_bnd (zm_bnd (zm_is a0 20) fun _ => fn_X3_ofLetting K a0 a1 3) fun v107 =>
        zm_bnd (zm_bnd (zm_is a0 20) fun _ => fn_X3_makes K a0 v101 v107 a2 v13) fun v112 =>
        zm_ret v112
      else
        zm_ret 0
    else
      zm_ret 0
  else
    zm_ret 0
theorem ct_X3_splits {l : Launch} {Ω : zm_W} {K : zm_K} (H : zm_H Ω K) (a0 : zm_R) (a1 : Int32) (a2 : Int32) : zm_Ct l Ω yX3_splits (ws_ yX3_splits cX3_splits 5 (Option.some Jvm.ClassFile.FieldType.int)) 5 149 [va_rf a0, .int a1, .int a2] zm_tvI (fn_X3_splits K a0 a1 a2) := by
  refine zm_ct H.1 (by decide +kernel) (zl_le (zl_R (zl_I (zl_I zl_nil))) (Nat.le_of_ble_eq_true rfl)) ?_
  intro p e R s m args below meth c n0 k0 C hX ls hl
  have hx := C.1
  have hb := C.2.1
  simp only [zg_I, zg_R, zg_nil] at hl
  have hl : lv_has ls 5 [(0, va_rf a0), (1, .int a1), (2, .int a2)] := hl
  refine rk_rf ?_
  unfold fn_X3_splits
  refine rk_of (fun _ _ _ _ _ k => lr_aload_n hx hb dX3_splits_0 rfl (lv_at hl 0 rfl) (lv_iload_n hx hb dX3_splits_1 rfl (lv_at hl 1 rfl) k)) ?_
  refine rk_callI hX (cl_V (rest := []) (av := [.int a1]) C (hc_X3 H) (ct_X3_isRefusedAsOver H a0 a1) (lw_V q2730 q2732 qs58 q112 q2733) ⟨rfl, hd_X3_isRefusedAsOver⟩ ⟨(Nat.le_of_ble_eq_true rfl), (Nat.le_of_ble_eq_true rfl)⟩ rfl hl.1 rfl (zw_le zw_nil (Nat.le_of_ble_eq_true rfl)) dX3_splits_2) (fun v2 => ?_)
  refine rk_ite (fun _ _ _ _ _ k1 k2 => lv_if_eq (tgt := 10) hx hb dX3_splits_5 (by decide) k1 k2) (fun c_5 => ?_) (fun c_5 => ?_)
  · refine rk_of (fun _ _ _ _ _ k => lr_aload_n hx hb dX3_splits_10 rfl (lv_at hl 0 rfl) (lv_iload_n hx hb dX3_splits_11 rfl (lv_at hl 1 rfl) (lv_iconst (v := 2) hx hb dX3_splits_12 rfl k))) ?_
    refine rk_callI hX (cl_V (rest := []) (av := [.int a1, .int 2]) C (hc_X3 H) (ct_X3_ofLetting H a0 a1 2) (lw_V q2707 q2709 qs54 q112 q2710) ⟨rfl, hd_X3_ofLetting⟩ ⟨(Nat.le_of_ble_eq_true rfl), (Nat.le_of_ble_eq_true rfl)⟩ rfl hl.1 rfl (zw_le zw_nil (Nat.le_of_ble_eq_true rfl)) dX3_splits_13) (fun v13 => ?_)
    refine rk_ofs (fun _ _ _ _ _ k => lr_istore_n hx hb dX3_splits_16 rfl hl (Nat.le_of_ble_eq_true rfl) [0, 1, 2] rfl ⟨trivial, ⟨trivial, ⟨rfl, trivial⟩⟩⟩ k) (fun ls hl => ?_)
    refine rk_of (fun _ _ _ _ _ k => lv_iload_n hx hb dX3_splits_17 rfl (lv_at hl 3 rfl) (lr_aload_n hx hb dX3_splits_18 rfl (lv_at hl 1 rfl) (lv_iload_n hx hb dX3_splits_19 rfl (lv_at hl 2 rfl) (lv_iconst (v := 1) hx hb dX3_splits_20 rfl k)))) ?_
    refine rk_callI hX (cl_V (rest := [.int a2]) (av := [.int a1, .int 1]) C (hc_X3 H) (ct_X3_ofLetting H a0 a1 1) (lw_V q2707 q2709 qs54 q112 q2710) ⟨rfl, hd_X3_ofLetting⟩ ⟨(Nat.le_of_ble_eq_true rfl), (Nat.le_of_ble_eq_true rfl)⟩ rfl hl.1 rfl (zw_le (zw_I zw_nil) (Nat.le_of_ble_eq_true rfl)) dX3_splits_21) (fun v21 => ?_)
    refine rk_of (fun _ _ _ _ _ k => lv_iconst (v := 1) hx hb dX3_splits_24 rfl (lv_iadd hx hb dX3_splits_25 (lv_iload_n hx hb dX3_splits_26 rfl (lv_at hl 0 rfl) (lv_iconst (v := 1) hx hb dX3_splits_27 rfl (lv_isub hx hb dX3_splits_28 k))))) ?_
    refine rk_callI hX (cl_S (rest := []) C (ct_X3_isIn H a2 (v21 + 1) (v13 - 1)) (lw_S q2662 q2663 q112 q2664) hd_X3_isIn ⟨(Nat.le_of_ble_eq_true rfl), (Nat.le_of_ble_eq_true rfl)⟩ rfl hl.1 rfl (zw_le zw_nil (Nat.le_of_ble_eq_true rfl)) dX3_splits_29) (fun v29 => ?_)
    refine rk_ofs (fun _ _ _ _ _ k => lr_istore hx hb dX3_splits_32 hl (Nat.le_of_ble_eq_true rfl) [0, 1, 2, 3] rfl ⟨rfl, ⟨trivial, ⟨trivial, ⟨trivial, trivial⟩⟩⟩⟩ k) (fun ls hl => ?_)
    refine rk_of (fun _ _ _ _ _ k => lr_aload_n hx hb dX3_splits_34 rfl (lv_at hl 2 rfl) (lv_iload hx hb dX3_splits_35 (lv_at hl 0 rfl) k)) ?_
    refine rk_join (β := Int32) (fun (b45 : Int32) ls => lv_has ls 5 [(0, va_rf a0), (1, .int a1), (2, .int a2), (3, .int v13)]) (fun (b45 : Int32) ls => F0 m 45 ls [.int b45, va_rf a0]) (fun b45 ls hl => ?_) (fun hJ45 => ?_)
    · refine rk_of (fun _ _ _ _ _ k => lv_bipush (v := 6) hx hb dX3_splits_45 rfl (lr_aload_n hx hb dX3_splits_47 rfl (lv_at hl 0 rfl) (lv_iload_n hx hb dX3_splits_48 rfl (lv_at hl 1 rfl) k))) ?_
      refine rk_callI hX (cl_V (rest := [.int 6, .int b45, va_rf a0]) (av := [.int a1]) C (hc_X3 H) (ct_X3_minutesOf H a0 a1) (lw_V q2738 q2740 qs60 q112 q2741) ⟨rfl, hd_X3_minutesOf⟩ ⟨(Nat.le_of_ble_eq_true rfl), (Nat.le_of_ble_eq_true rfl)⟩ rfl hl.1 rfl (zw_le (zw_I (zw_I (zw_R zw_nil))) (Nat.le_of_ble_eq_true rfl)) dX3_splits_49) (fun v49 => ?_)
      refine rk_callI hX (cl_V (rest := []) (av := [.int b45, .int 6, .int v49]) C (hc_X3 H) (ct_X3_isRefused H a0 b45 6 v49) (lw_V q2669 q2671 qs47 q112 q2672) ⟨rfl, hd_X3_isRefused⟩ ⟨(Nat.le_of_ble_eq_true rfl), (Nat.le_of_ble_eq_true rfl)⟩ rfl hl.1 rfl (zw_le zw_nil (Nat.le_of_ble_eq_true rfl)) dX3_splits_52) (fun v52 => ?_)
      refine rk_ite (fun _ _ _ _ _ k1 k2 => lv_if_ne (tgt := 84) hx hb dX3_splits_55 (by decide) k2 k1) (fun c_55 => ?_) (fun c_55 => ?_)
      · refine rk_of (fun _ _ _ _ _ k => lr_aload_n hx hb dX3_splits_58 rfl (lv_at hl 0 rfl) (lr_aload_n hx hb dX3_splits_59 rfl (lv_at hl 0 rfl) k)) ?_
        refine rk_get zm_rdR_eq C (hc_X3 H) (k := 0) (Nat.le_of_ble_eq_true rfl) in_X3 q2577 (fun _ h => h) dX3_splits_60 (fun v60 => ?_)
        refine rk_of (fun _ _ _ _ _ k => lv_iconst (v := 1) hx hb dX3_splits_63 rfl k) ?_
        refine rk_iald C dX3_splits_64 (fun v64 => ?_)
        refine rk_of (fun _ _ _ _ _ k => lv_bipush (v := 30) hx hb dX3_splits_65 rfl k) ?_
        refine rk_join (β := Int32) (fun (b75 : Int32) ls => lv_has ls 5 [(0, va_rf a0), (1, .int a1), (2, .int a2), (3, .int v13)]) (fun (b75 : Int32) ls => F0 m 75 ls [.int b75, va_rf a0]) (fun b75 ls hl => ?_) (fun hJ75 => ?_)
        · refine rk_of (fun _ _ _ _ _ k => lv_iconst (v := 1) hx hb dX3_splits_75 rfl (lv_bipush (v := 30) hx hb dX3_splits_76 rfl k)) ?_
          refine rk_callI hX (cl_V (rest := []) (av := [.int b75, .int 1, .int 30]) C (hc_X3 H) (ct_X3_isRefused H a0 b75 1 30) (lw_V q2669 q2671 qs47 q112 q2672) ⟨rfl, hd_X3_isRefused⟩ ⟨(Nat.le_of_ble_eq_true rfl), (Nat.le_of_ble_eq_true rfl)⟩ rfl hl.1 rfl (zw_le zw_nil (Nat.le_of_ble_eq_true rfl)) dX3_splits_78) (fun v78 => ?_)
          refine rk_ite (fun _ _ _ _ _ k1 k2 => lv_if_eq (tgt := 86) hx hb dX3_splits_81 (by decide) k1 k2) (fun c_81 => ?_) (fun c_81 => ?_)
          · refine rk_of (fun _ _ _ _ _ k => lr_aload_n hx hb dX3_splits_86 rfl (lv_at hl 0 rfl) k) ?_
            refine rk_get zm_rdR_eq C (hc_X3 H) (k := 0) (Nat.le_of_ble_eq_true rfl) in_X3 q2577 (fun _ h => h) dX3_splits_87 (fun v87 => ?_)
            refine rk_of (fun _ _ _ _ _ k => lv_iload_n hx hb dX3_splits_90 rfl (lv_at hl 1 rfl) (lv_iconst (v := 2) hx hb dX3_splits_91 rfl k)) ?_
            refine rk_callI hX (cl_S (rest := [va_rf v87]) C (ct_X3_lettingAt H a1 2) (lw_S q2711 q2712 q112 q2713) hd_X3_lettingAt ⟨(Nat.le_of_ble_eq_true rfl), (Nat.le_of_ble_eq_true rfl)⟩ rfl hl.1 rfl (zw_le (zw_R zw_nil) (Nat.le_of_ble_eq_true rfl)) dX3_splits_92) (fun v92 => ?_)
            refine rk_of (fun _ _ _ _ _ k => lv_iload_n hx hb dX3_splits_95 rfl (lv_at hl 2 rfl) k) ?_
            refine rk_iast C H.2.2.1 dX3_splits_96 ?_
            refine rk_of (fun _ _ _ _ _ k => lr_aload_n hx hb dX3_splits_97 rfl (lv_at hl 0 rfl) (lr_aload_n hx hb dX3_splits_98 rfl (lv_at hl 0 rfl) (lv_iload_n hx hb dX3_splits_99 rfl (lv_at hl 1 rfl) (lv_iconst (v := 0) hx hb dX3_splits_100 rfl k)))) ?_
            refine rk_callI hX (cl_V (rest := [va_rf a0]) (av := [.int a1, .int 0]) C (hc_X3 H) (ct_X3_ofLetting H a0 a1 0) (lw_V q2707 q2709 qs54 q112 q2710) ⟨rfl, hd_X3_ofLetting⟩ ⟨(Nat.le_of_ble_eq_true rfl), (Nat.le_of_ble_eq_true rfl)⟩ rfl hl.1 rfl (zw_le (zw_R zw_nil) (Nat.le_of_ble_eq_true rfl)) dX3_splits_101) (fun v101 => ?_)
            refine rk_of (fun _ _ _ _ _ k => lr_aload_n hx hb dX3_splits_104 rfl (lv_at hl 0 rfl) (lv_iload_n hx hb dX3_splits_105 rfl (lv_at hl 1 rfl) (lv_iconst (v := 3) hx hb dX3_splits_106 rfl k))) ?_
            refine rk_callI hX (cl_V (rest := [.int v101, va_rf a0]) (av := [.int a1, .int 3]) C (hc_X3 H) (ct_X3_ofLetting H a0 a1 3) (lw_V q2707 q2709 qs54 q112 q2710) ⟨rfl, hd_X3_ofLetting⟩ ⟨(Nat.le_of_ble_eq_true rfl), (Nat.le_of_ble_eq_true rfl)⟩ rfl hl.1 rfl (zw_le (zw_I (zw_R zw_nil)) (Nat.le_of_ble_eq_true rfl)) dX3_splits_107) (fun v107 => ?_)
            refine rk_of (fun _ _ _ _ _ k => lv_iload_n hx hb dX3_splits_110 rfl (lv_at hl 2 rfl) (lv_iload_n hx hb dX3_splits_111 rfl (lv_at hl 3 rfl) k)) ?_
            refine rk_callI hX (cl_V (rest := []) (av := [.int v101, .int v107, .int a2, .int v13]) C (hc_X3 H) (ct_X3_makes H a0 v101 v107 a2 v13) (lw_V q2714 q2716 qs55 q112 q2717) ⟨rfl, hd_X3_makes⟩ ⟨(Nat.le_of_ble_eq_true rfl), (Nat.le_of_ble_eq_true rfl)⟩ rfl hl.1 rfl (zw_le zw_nil (Nat.le_of_ble_eq_true rfl)) dX3_splits_112) (fun v112 => ?_)
            exact rk_top (rf_iret C rfl dX3_splits_115)
          · refine rk_of (fun _ _ _ _ _ k => lv_iconst (v := 0) hx hb dX3_splits_84 rfl k) ?_
            exact rk_top (rf_iret C rfl dX3_splits_85)
        · refine rk_ite (fun _ _ _ _ _ k1 k2 => lv_icmp_ne (tgt := 74) hx hb dX3_splits_67 (by decide) k2 k1) (fun c_67 => ?_) (fun c_67 => ?_)
          · refine rk_of (fun _ _ _ _ _ k => lv_iconst (v := 1) hx hb dX3_splits_70 rfl (lv_goto (tgt := 75) hx hb dX3_splits_71 (by decide) k)) ?_
            exact hJ75 1 ls (lv_sub hl [0, 1, 2, 3] rfl)
          · refine rk_of (fun _ _ _ _ _ k => lv_iconst (v := 0) hx hb dX3_splits_74 rfl k) ?_
            exact hJ75 0 ls (lv_sub hl [0, 1, 2, 3] rfl)
      · refine rk_of (fun _ _ _ _ _ k => lv_iconst (v := 0) hx hb dX3_splits_84 rfl k) ?_
        exact rk_top (rf_iret C rfl dX3_splits_85)
    · refine rk_ite (fun _ _ _ _ _ k1 k2 => lv_if_ne (tgt := 44) hx hb dX3_splits_37 (by decide) k2 k1) (fun c_37 => ?_) (fun c_37 => ?_)
      · refine rk_of (fun _ _ _ _ _ k => lv_iconst (v := 1) hx hb dX3_splits_40 rfl (lv_goto (tgt := 45) hx hb dX3_splits_41 (by decide) k)) ?_
        exact hJ45 1 ls (lv_sub hl [2, 3, 4, 1] rfl)
      · refine rk_of (fun _ _ _ _ _ k => lv_iconst (v := 0) hx hb dX3_splits_44 rfl k) ?_
        exact hJ45 0 ls (lv_sub hl [2, 3, 4, 1] rfl)
  · refine rk_of (fun _ _ _ _ _ k => lv_iconst (v := 0) hx hb dX3_splits_8 rfl k) ?_
    exact rk_top (rf_iret C rfl dX3_splits_9)
theorem hd_X3_wishes : yX3_wishes.cls ≠ "java/lang/invoke/MethodHandle" ∧ yX3_wishes.cls ≠ "java/lang/invoke/VarHandle" ∧ (parseMethodDescriptor yX3_wishes.desc).map (fun d => d.parameters.length) = some 3 := by decide +kernel
noncomputable def fn_X3_wishes (K : zm_K) (a0 : zm_R) (a1 : Int32) (a2 : Int32) (a3 : Int32) : zm_M Int32 :=
  zm_bnd (zm_getR a0 20 0) fun v2 =>
  zm_bnd (zm_aldI .int v2 2) fun v6 =>
  zm_bnd (α := Int32) (
      if v6 = 12 then
        zm_ret 1
      else
        zm_ret 0
    ) fun b17 =>
  zm_bnd (zm_bnd (zm_is a0 20) fun _ => fn_X3_isRefused K a0 b17 1 12) fun v20 =>
  if v20 = 0 then
    zm_bnd (zm_getR a0 20 0) fun v29 =>
    zm_bnd (zm_aldI .int v29 2) fun v33 =>
    zm_bnd (zm_getR a0 20 0) fun v37 =>
    zm_bnd (fn_X3_wishAt K v33 0) fun v43 =>
    zm_bnd (zm_astI K .int v37 v43 a2) fun _ =>
    zm_bnd (zm_getR a0 20 0) fun v49 =>
    zm_bnd (fn_X3_wishAt K v33 1) fun v55 =>
    zm_bnd (zm_astI K .int v49 v55 a3) fun _ =>
    zm_bnd (zm_getR a0 20 0) fun v61 =>
    zm_bnd (fn_X3_wishAt K v33 2) fun v67 =>
    zm_bnd (zm_astI K .int v61 v67 a1) fun _ =>
    zm_bnd (zm_getR a0 20 0) fun v73 =>
    zm_bnd (zm_aldI .int v73 2) fun v78 =>
    zm_bnd (zm_astI K .int v73 2 (v78 + 1)) fun _ =>
    zm_ret v33
  else
    zm_ret 0
theorem ct_X3_wishes {l : Launch} {Ω : zm_W} {K : zm_K} (H : zm_H Ω K) (a0 : zm_R) (a1 : Int32) (a2 : Int32) (a3 : Int32) : zm_Ct l Ω yX3_wishes (ws_ yX3_wishes cX3_wishes 5 (Option.some Jvm.ClassFile.FieldType.int)) 2 87 [va_rf a0, .int a1, .int a2, .int a3] zm_tvI (fn_X3_wishes K a0 a1 a2 a3) := by
  refine zm_ct H.1 (by decide +kernel) (zl_le (zl_R (zl_I (zl_I (zl_I zl_nil)))) (Nat.le_of_ble_eq_true rfl)) ?_
  intro p e R s m args below meth c n0 k0 C hX ls hl
  have hx := C.1
  have hb := C.2.1
  simp only [zg_I, zg_R, zg_nil] at hl
  have hl : lv_has ls 5 [(0, va_rf a0), (1, .int a1), (2, .int a2), (3, .int a3)] := hl
  refine rk_rf ?_
  unfold fn_X3_wishes
  refine rk_of (fun _ _ _ _ _ k => lr_aload_n hx hb dX3_wishes_0 rfl (lv_at hl 0 rfl) (lr_aload_n hx hb dX3_wishes_1 rfl (lv_at hl 0 rfl) k)) ?_
  refine rk_get zm_rdR_eq C (hc_X3 H) (k := 0) (Nat.le_of_ble_eq_true rfl) in_X3 q2577 (fun _ h => h) dX3_wishes_2 (fun v2 => ?_)
  refine rk_of (fun _ _ _ _ _ k => lv_iconst (v := 2) hx hb dX3_wishes_5 rfl k) ?_
  refine rk_iald C dX3_wishes_6 (fun v6 => ?_)
  refine rk_of (fun _ _ _ _ _ k => lv_bipush (v := 12) hx hb dX3_wishes_7 rfl k) ?_
  refine rk_join (β := Int32) (fun (b17 : Int32) ls => lv_has ls 5 [(0, va_rf a0), (1, .int a1), (2, .int a2), (3, .int a3)]) (fun (b17 : Int32) ls => F0 m 17 ls [.int b17, va_rf a0]) (fun b17 ls hl => ?_) (fun hJ17 => ?_)
  · refine rk_of (fun _ _ _ _ _ k => lv_iconst (v := 1) hx hb dX3_wishes_17 rfl (lv_bipush (v := 12) hx hb dX3_wishes_18 rfl k)) ?_
    refine rk_callI hX (cl_V (rest := []) (av := [.int b17, .int 1, .int 12]) C (hc_X3 H) (ct_X3_isRefused H a0 b17 1 12) (lw_V q2669 q2671 qs47 q112 q2672) ⟨rfl, hd_X3_isRefused⟩ ⟨(Nat.le_of_ble_eq_true rfl), (Nat.le_of_ble_eq_true rfl)⟩ rfl hl.1 rfl (zw_le zw_nil (Nat.le_of_ble_eq_true rfl)) dX3_wishes_20) (fun v20 => ?_)
    refine rk_ite (fun _ _ _ _ _ k1 k2 => lv_if_eq (tgt := 28) hx hb dX3_wishes_23 (by decide) k1 k2) (fun c_23 => ?_) (fun c_23 => ?_)
    · refine rk_of (fun _ _ _ _ _ k => lr_aload_n hx hb dX3_wishes_28 rfl (lv_at hl 0 rfl) k) ?_
      refine rk_get zm_rdR_eq C (hc_X3 H) (k := 0) (Nat.le_of_ble_eq_true rfl) in_X3 q2577 (fun _ h => h) dX3_wishes_29 (fun v29 => ?_)
      refine rk_of (fun _ _ _ _ _ k => lv_iconst (v := 2) hx hb dX3_wishes_32 rfl k) ?_
      refine rk_iald C dX3_wishes_33 (fun v33 => ?_)
      refine rk_ofs (fun _ _ _ _ _ k => lr_istore hx hb dX3_wishes_34 hl (Nat.le_of_ble_eq_true rfl) [0, 1, 2, 3] rfl ⟨trivial, ⟨trivial, ⟨trivial, ⟨rfl, trivial⟩⟩⟩⟩ k) (fun ls hl => ?_)
      refine rk_of (fun _ _ _ _ _ k => lr_aload_n hx hb dX3_wishes_36 rfl (lv_at hl 1 rfl) k) ?_
      refine rk_get zm_rdR_eq C (hc_X3 H) (k := 0) (Nat.le_of_ble_eq_true rfl) in_X3 q2577 (fun _ h => h) dX3_wishes_37 (fun v37 => ?_)
      refine rk_of (fun _ _ _ _ _ k => lv_iload hx hb dX3_wishes_40 (lv_at hl 0 rfl) (lv_iconst (v := 0) hx hb dX3_wishes_42 rfl k)) ?_
      refine rk_callI hX (cl_S (rest := [va_rf v37]) C (ct_X3_wishAt H v33 0) (lw_S q2795 q2796 q112 q2797) hd_X3_wishAt ⟨(Nat.le_of_ble_eq_true rfl), (Nat.le_of_ble_eq_true rfl)⟩ rfl hl.1 rfl (zw_le (zw_R zw_nil) (Nat.le_of_ble_eq_true rfl)) dX3_wishes_43) (fun v43 => ?_)
      refine rk_of (fun _ _ _ _ _ k => lv_iload_n hx hb dX3_wishes_46 rfl (lv_at hl 3 rfl) k) ?_
      refine rk_iast C H.2.2.1 dX3_wishes_47 ?_
      refine rk_of (fun _ _ _ _ _ k => lr_aload_n hx hb dX3_wishes_48 rfl (lv_at hl 1 rfl) k) ?_
      refine rk_get zm_rdR_eq C (hc_X3 H) (k := 0) (Nat.le_of_ble_eq_true rfl) in_X3 q2577 (fun _ h => h) dX3_wishes_49 (fun v49 => ?_)
      refine rk_of (fun _ _ _ _ _ k => lv_iload hx hb dX3_wishes_52 (lv_at hl 0 rfl) (lv_iconst (v := 1) hx hb dX3_wishes_54 rfl k)) ?_
      refine rk_callI hX (cl_S (rest := [va_rf v49]) C (ct_X3_wishAt H v33 1) (lw_S q2795 q2796 q112 q2797) hd_X3_wishAt ⟨(Nat.le_of_ble_eq_true rfl), (Nat.le_of_ble_eq_true rfl)⟩ rfl hl.1 rfl (zw_le (zw_R zw_nil) (Nat.le_of_ble_eq_true rfl)) dX3_wishes_55) (fun v55 => ?_)
      refine rk_of (fun _ _ _ _ _ k => lv_iload_n hx hb dX3_wishes_58 rfl (lv_at hl 4 rfl) k) ?_
      refine rk_iast C H.2.2.1 dX3_wishes_59 ?_
      refine rk_of (fun _ _ _ _ _ k => lr_aload_n hx hb dX3_wishes_60 rfl (lv_at hl 1 rfl) k) ?_
      refine rk_get zm_rdR_eq C (hc_X3 H) (k := 0) (Nat.le_of_ble_eq_true rfl) in_X3 q2577 (fun _ h => h) dX3_wishes_61 (fun v61 => ?_)
      refine rk_of (fun _ _ _ _ _ k => lv_iload hx hb dX3_wishes_64 (lv_at hl 0 rfl) (lv_iconst (v := 2) hx hb dX3_wishes_66 rfl k)) ?_
      refine rk_callI hX (cl_S (rest := [va_rf v61]) C (ct_X3_wishAt H v33 2) (lw_S q2795 q2796 q112 q2797) hd_X3_wishAt ⟨(Nat.le_of_ble_eq_true rfl), (Nat.le_of_ble_eq_true rfl)⟩ rfl hl.1 rfl (zw_le (zw_R zw_nil) (Nat.le_of_ble_eq_true rfl)) dX3_wishes_67) (fun v67 => ?_)
      refine rk_of (fun _ _ _ _ _ k => lv_iload_n hx hb dX3_wishes_70 rfl (lv_at hl 2 rfl) k) ?_
      refine rk_iast C H.2.2.1 dX3_wishes_71 ?_
      refine rk_of (fun _ _ _ _ _ k => lr_aload_n hx hb dX3_wishes_72 rfl (lv_at hl 1 rfl) k) ?_
      refine rk_get zm_rdR_eq C (hc_X3 H) (k := 0) (Nat.le_of_ble_eq_true rfl) in_X3 q2577 (fun _ h => h) dX3_wishes_73 (fun v73 => ?_)
      refine rk_of (fun _ _ _ _ _ k => lv_iconst (v := 2) hx hb dX3_wishes_76 rfl (lv_dup2_11 hx hb dX3_wishes_77 rfl (va_rf_cat _) k)) ?_
      refine rk_iald C dX3_wishes_78 (fun v78 => ?_)
      refine rk_of (fun _ _ _ _ _ k => lv_iconst (v := 1) hx hb dX3_wishes_79 rfl (lv_iadd hx hb dX3_wishes_80 k)) ?_
      refine rk_iast C H.2.2.1 dX3_wishes_81 ?_
      refine rk_of (fun _ _ _ _ _ k => lv_iload hx hb dX3_wishes_82 (lv_at hl 0 rfl) k) ?_
      exact rk_top (rf_iret C rfl dX3_wishes_84)
    · refine rk_of (fun _ _ _ _ _ k => lv_iconst (v := 0) hx hb dX3_wishes_26 rfl k) ?_
      exact rk_top (rf_iret C rfl dX3_wishes_27)
  · refine rk_ite (fun _ _ _ _ _ k1 k2 => lv_icmp_ne (tgt := 16) hx hb dX3_wishes_9 (by decide) k2 k1) (fun c_9 => ?_) (fun c_9 => ?_)
    · refine rk_of (fun _ _ _ _ _ k => lv_iconst (v := 1) hx hb dX3_wishes_12 rfl (lv_goto (tgt := 17) hx hb dX3_wishes_13 (by decide) k)) ?_
      exact hJ17 1 ls (lv_sub hl [0, 1, 2, 3] rfl)
    · refine rk_of (fun _ _ _ _ _ k => lv_iconst (v := 0) hx hb dX3_wishes_16 rfl k) ?_
      exact hJ17 0 ls (lv_sub hl [0, 1, 2, 3] rfl)
theorem hd_X3_does : yX3_does.cls ≠ "java/lang/invoke/MethodHandle" ∧ yX3_does.cls ≠ "java/lang/invoke/VarHandle" ∧ (parseMethodDescriptor yX3_does.desc).map (fun d => d.parameters.length) = some 1 := by decide +kernel
noncomputable def fn_X3_does (K : zm_K) (a0 : zm_R) (a1 : Int32) : zm_M Int32 :=
  zm_bnd (zm_getR a0 20 18) fun v1 =>
  zm_bnd (zm_aldI .int v1 (a1 + 1)) fun v7 =>
  zm_bnd (zm_getR a0 20 18) fun v10 =>
  zm_bnd (zm_aldI .int v10 (a1 + 2)) fun v16 =>
  zm_bnd (zm_getR a0 20 18) fun v19 =>
  zm_bnd (zm_aldI .int v19 (a1 + 3)) fun v25 =>
  zm_bnd (zm_getR a0 20 18) fun v29 =>
  zm_bnd (zm_aldI .int v29 a1) fun v33 =>
  if v33 = 0 then
    zm_bnd (zm_getR a0 20 18) fun v78 =>
    zm_bnd (zm_aldI .int v78 (a1 + 4)) fun v84 =>
    zm_bnd (zm_bnd (zm_is a0 20) fun _ => fn_X3_lets K a0 v7 v16 v25 v84) fun v85 =>
    zm_ret v85
  else
    if v33 = 1 then
      zm_bnd (zm_bnd (zm_is a0 20) fun _ => fn_X3_cancels K a0 v7) fun v91 =>
      zm_ret v91
    else
      if v33 = 2 then
        zm_bnd (zm_bnd (zm_is a0 20) fun _ => fn_X3_moves K a0 v7 v16) fun v98 =>
        zm_ret v98
      else
        if v33 = 3 then
          zm_bnd (zm_bnd (zm_is a0 20) fun _ => fn_X3_splits K a0 v7 v16) fun v105 =>
          zm_ret v105
        else
          if v33 = 4 then
            zm_bnd (zm_bnd (zm_is a0 20) fun _ => fn_X3_wishes K a0 v7 v16 v25) fun v114 =>
            zm_ret v114
          else
            if v33 = 5 then
              zm_bnd (zm_bnd (zm_is a0 20) fun _ => fn_X3_drops K a0 v7) fun v120 =>
              zm_ret v120
            else
              zm_bnd (zm_bnd (zm_is a0 20) fun _ => fn_X3_allots K a0) fun v125 =>
              zm_ret v125
theorem ct_X3_does {l : Launch} {Ω : zm_W} {K : zm_K} (H : zm_H Ω K) (a0 : zm_R) (a1 : Int32) : zm_Ct l Ω yX3_does (ws_ yX3_does cX3_does 5 (Option.some Jvm.ClassFile.FieldType.int)) 7 205 [va_rf a0, .int a1] zm_tvI (fn_X3_does K a0 a1) := by
  refine zm_ct H.1 (by decide +kernel) (zl_le (zl_R (zl_I zl_nil)) (Nat.le_of_ble_eq_true rfl)) ?_
  intro p e R s m args below meth c n0 k0 C hX ls hl
  have hx := C.1
  have hb := C.2.1
  simp only [zg_I, zg_R, zg_nil] at hl
  have hl : lv_has ls 5 [(0, va_rf a0), (1, .int a1)] := hl
  refine rk_rf ?_
  unfold fn_X3_does
  refine rk_of (fun _ _ _ _ _ k => lr_aload_n hx hb dX3_does_0 rfl (lv_at hl 0 rfl) k) ?_
  refine rk_get zm_rdR_eq C (hc_X3 H) (k := 18) (Nat.le_of_ble_eq_true rfl) in_X3 q2595 (fun _ h => h) dX3_does_1 (fun v1 => ?_)
  refine rk_of (fun _ _ _ _ _ k => lv_iload_n hx hb dX3_does_4 rfl (lv_at hl 1 rfl) (lv_iconst (v := 1) hx hb dX3_does_5 rfl (lv_iadd hx hb dX3_does_6 k))) ?_
  refine rk_iald C dX3_does_7 (fun v7 => ?_)
  refine rk_ofs (fun _ _ _ _ _ k => lr_istore_n hx hb dX3_does_8 rfl hl (Nat.le_of_ble_eq_true rfl) [0, 1] rfl ⟨trivial, ⟨rfl, trivial⟩⟩ k) (fun ls hl => ?_)
  refine rk_of (fun _ _ _ _ _ k => lr_aload_n hx hb dX3_does_9 rfl (lv_at hl 1 rfl) k) ?_
  refine rk_get zm_rdR_eq C (hc_X3 H) (k := 18) (Nat.le_of_ble_eq_true rfl) in_X3 q2595 (fun _ h => h) dX3_does_10 (fun v10 => ?_)
  refine rk_of (fun _ _ _ _ _ k => lv_iload_n hx hb dX3_does_13 rfl (lv_at hl 2 rfl) (lv_iconst (v := 2) hx hb dX3_does_14 rfl (lv_iadd hx hb dX3_does_15 k))) ?_
  refine rk_iald C dX3_does_16 (fun v16 => ?_)
  refine rk_ofs (fun _ _ _ _ _ k => lr_istore_n hx hb dX3_does_17 rfl hl (Nat.le_of_ble_eq_true rfl) [0, 1, 2] rfl ⟨rfl, ⟨trivial, ⟨trivial, trivial⟩⟩⟩ k) (fun ls hl => ?_)
  refine rk_of (fun _ _ _ _ _ k => lr_aload_n hx hb dX3_does_18 rfl (lv_at hl 2 rfl) k) ?_
  refine rk_get zm_rdR_eq C (hc_X3 H) (k := 18) (Nat.le_of_ble_eq_true rfl) in_X3 q2595 (fun _ h => h) dX3_does_19 (fun v19 => ?_)
  refine rk_of (fun _ _ _ _ _ k => lv_iload_n hx hb dX3_does_22 rfl (lv_at hl 3 rfl) (lv_iconst (v := 3) hx hb dX3_does_23 rfl (lv_iadd hx hb dX3_does_24 k))) ?_
  refine rk_iald C dX3_does_25 (fun v25 => ?_)
  refine rk_ofs (fun _ _ _ _ _ k => lr_istore hx hb dX3_does_26 hl (Nat.le_of_ble_eq_true rfl) [0, 1, 2, 3] rfl ⟨rfl, ⟨trivial, ⟨trivial, ⟨trivial, trivial⟩⟩⟩⟩ k) (fun ls hl => ?_)
  refine rk_of (fun _ _ _ _ _ k => lr_aload_n hx hb dX3_does_28 rfl (lv_at hl 3 rfl) k) ?_
  refine rk_get zm_rdR_eq C (hc_X3 H) (k := 18) (Nat.le_of_ble_eq_true rfl) in_X3 q2595 (fun _ h => h) dX3_does_29 (fun v29 => ?_)
  refine rk_of (fun _ _ _ _ _ k => lv_iload_n hx hb dX3_does_32 rfl (lv_at hl 4 rfl) k) ?_
  refine rk_iald C dX3_does_33 (fun v33 => ?_)
  refine rk_case (fun c_34_0 => ?_) (fun c_34_0 => ?_)
  · refine rk_of (fun _ _ _ _ _ k => by rw [c_34_0]; exact lv_tableIn (off := 38) (tgt := 72) hx hb dX3_does_34 (by decide) (by decide) rfl (by decide) k) ?_
    refine rk_of (fun _ _ _ _ _ k => lr_aload_n hx hb dX3_does_72 rfl (lv_at hl 3 rfl) (lv_iload_n hx hb dX3_does_73 rfl (lv_at hl 2 rfl) (lv_iload_n hx hb dX3_does_74 rfl (lv_at hl 1 rfl) (lv_iload hx hb dX3_does_75 (lv_at hl 0 rfl) (lr_aload_n hx hb dX3_does_77 rfl (lv_at hl 3 rfl) k))))) ?_
    refine rk_get zm_rdR_eq C (hc_X3 H) (k := 18) (Nat.le_of_ble_eq_true rfl) in_X3 q2595 (fun _ h => h) dX3_does_78 (fun v78 => ?_)
    refine rk_of (fun _ _ _ _ _ k => lv_iload_n hx hb dX3_does_81 rfl (lv_at hl 4 rfl) (lv_iconst (v := 4) hx hb dX3_does_82 rfl (lv_iadd hx hb dX3_does_83 k))) ?_
    refine rk_iald C dX3_does_84 (fun v84 => ?_)
    refine rk_callI hX (cl_V (rest := []) (av := [.int v7, .int v16, .int v25, .int v84]) C (hc_X3 H) (ct_X3_lets H a0 v7 v16 v25 v84) (lw_V q2695 q2697 qs51 q112 q2698) ⟨rfl, hd_X3_lets⟩ ⟨(Nat.le_of_ble_eq_true rfl), (Nat.le_of_ble_eq_true rfl)⟩ rfl hl.1 rfl (zw_le zw_nil (Nat.le_of_ble_eq_true rfl)) dX3_does_85) (fun v85 => ?_)
    exact rk_top (rf_iret C rfl dX3_does_88)
  · refine rk_case (fun c_34_1 => ?_) (fun c_34_1 => ?_)
    · refine rk_of (fun _ _ _ _ _ k => by rw [c_34_1]; exact lv_tableIn (off := 55) (tgt := 89) hx hb dX3_does_34 (by decide) (by decide) rfl (by decide) k) ?_
      refine rk_of (fun _ _ _ _ _ k => lr_aload_n hx hb dX3_does_89 rfl (lv_at hl 3 rfl) (lv_iload_n hx hb dX3_does_90 rfl (lv_at hl 2 rfl) k)) ?_
      refine rk_callI hX (cl_V (rest := []) (av := [.int v7]) C (hc_X3 H) (ct_X3_cancels H a0 v7) (lw_V q2726 q2728 qs57 q112 q2729) ⟨rfl, hd_X3_cancels⟩ ⟨(Nat.le_of_ble_eq_true rfl), (Nat.le_of_ble_eq_true rfl)⟩ rfl hl.1 rfl (zw_le zw_nil (Nat.le_of_ble_eq_true rfl)) dX3_does_91) (fun v91 => ?_)
      exact rk_top (rf_iret C rfl dX3_does_94)
    · refine rk_case (fun c_34_2 => ?_) (fun c_34_2 => ?_)
      · refine rk_of (fun _ _ _ _ _ k => by rw [c_34_2]; exact lv_tableIn (off := 61) (tgt := 95) hx hb dX3_does_34 (by decide) (by decide) rfl (by decide) k) ?_
        refine rk_of (fun _ _ _ _ _ k => lr_aload_n hx hb dX3_does_95 rfl (lv_at hl 3 rfl) (lv_iload_n hx hb dX3_does_96 rfl (lv_at hl 2 rfl) (lv_iload_n hx hb dX3_does_97 rfl (lv_at hl 1 rfl) k))) ?_
        refine rk_callI hX (cl_V (rest := []) (av := [.int v7, .int v16]) C (hc_X3 H) (ct_X3_moves H a0 v7 v16) (lw_V q2749 q2751 qs61 q112 q2752) ⟨rfl, hd_X3_moves⟩ ⟨(Nat.le_of_ble_eq_true rfl), (Nat.le_of_ble_eq_true rfl)⟩ rfl hl.1 rfl (zw_le zw_nil (Nat.le_of_ble_eq_true rfl)) dX3_does_98) (fun v98 => ?_)
        exact rk_top (rf_iret C rfl dX3_does_101)
      · refine rk_case (fun c_34_3 => ?_) (fun c_34_3 => ?_)
        · refine rk_of (fun _ _ _ _ _ k => by rw [c_34_3]; exact lv_tableIn (off := 68) (tgt := 102) hx hb dX3_does_34 (by decide) (by decide) rfl (by decide) k) ?_
          refine rk_of (fun _ _ _ _ _ k => lr_aload_n hx hb dX3_does_102 rfl (lv_at hl 3 rfl) (lv_iload_n hx hb dX3_does_103 rfl (lv_at hl 2 rfl) (lv_iload_n hx hb dX3_does_104 rfl (lv_at hl 1 rfl) k))) ?_
          refine rk_callI hX (cl_V (rest := []) (av := [.int v7, .int v16]) C (hc_X3 H) (ct_X3_splits H a0 v7 v16) (lw_V q2763 q2765 qs62 q112 q2766) ⟨rfl, hd_X3_splits⟩ ⟨(Nat.le_of_ble_eq_true rfl), (Nat.le_of_ble_eq_true rfl)⟩ rfl hl.1 rfl (zw_le zw_nil (Nat.le_of_ble_eq_true rfl)) dX3_does_105) (fun v105 => ?_)
          exact rk_top (rf_iret C rfl dX3_does_108)
        · refine rk_case (fun c_34_4 => ?_) (fun c_34_4 => ?_)
          · refine rk_of (fun _ _ _ _ _ k => by rw [c_34_4]; exact lv_tableIn (off := 75) (tgt := 109) hx hb dX3_does_34 (by decide) (by decide) rfl (by decide) k) ?_
            refine rk_of (fun _ _ _ _ _ k => lr_aload_n hx hb dX3_does_109 rfl (lv_at hl 3 rfl) (lv_iload_n hx hb dX3_does_110 rfl (lv_at hl 2 rfl) (lv_iload_n hx hb dX3_does_111 rfl (lv_at hl 1 rfl) (lv_iload hx hb dX3_does_112 (lv_at hl 0 rfl) k)))) ?_
            refine rk_callI hX (cl_V (rest := []) (av := [.int v7, .int v16, .int v25]) C (hc_X3 H) (ct_X3_wishes H a0 v7 v16 v25) (lw_V q2791 q2793 qs65 q112 q2794) ⟨rfl, hd_X3_wishes⟩ ⟨(Nat.le_of_ble_eq_true rfl), (Nat.le_of_ble_eq_true rfl)⟩ rfl hl.1 rfl (zw_le zw_nil (Nat.le_of_ble_eq_true rfl)) dX3_does_114) (fun v114 => ?_)
            exact rk_top (rf_iret C rfl dX3_does_117)
          · refine rk_case (fun c_34_5 => ?_) (fun c_34_5 => ?_)
            · refine rk_of (fun _ _ _ _ _ k => by rw [c_34_5]; exact lv_tableIn (off := 84) (tgt := 118) hx hb dX3_does_34 (by decide) (by decide) rfl (by decide) k) ?_
              refine rk_of (fun _ _ _ _ _ k => lr_aload_n hx hb dX3_does_118 rfl (lv_at hl 3 rfl) (lv_iload_n hx hb dX3_does_119 rfl (lv_at hl 2 rfl) k)) ?_
              refine rk_callI hX (cl_V (rest := []) (av := [.int v7]) C (hc_X3 H) (ct_X3_drops H a0 v7) (lw_V q2806 q2808 qs67 q112 q2809) ⟨rfl, hd_X3_drops⟩ ⟨(Nat.le_of_ble_eq_true rfl), (Nat.le_of_ble_eq_true rfl)⟩ rfl hl.1 rfl (zw_le zw_nil (Nat.le_of_ble_eq_true rfl)) dX3_does_120) (fun v120 => ?_)
              exact rk_top (rf_iret C rfl dX3_does_123)
            · have q_0 : (v33).toInt ≠ 0 := fun q => c_34_0 (zs_eq q rfl)
              have q_1 : (v33).toInt ≠ 1 := fun q => c_34_1 (zs_eq q rfl)
              have q_2 : (v33).toInt ≠ 2 := fun q => c_34_2 (zs_eq q rfl)
              have q_3 : (v33).toInt ≠ 3 := fun q => c_34_3 (zs_eq q rfl)
              have q_4 : (v33).toInt ≠ 4 := fun q => c_34_4 (zs_eq q rfl)
              have q_5 : (v33).toInt ≠ 5 := fun q => c_34_5 (zs_eq q rfl)
              refine rk_of (fun _ _ _ _ _ k => lv_tableOut (tgt := 124) hx hb dX3_does_34 (by omega) (by decide) k) ?_
              refine rk_of (fun _ _ _ _ _ k => lr_aload_n hx hb dX3_does_124 rfl (lv_at hl 3 rfl) k) ?_
              refine rk_callI hX (cl_V (rest := []) (av := []) C (hc_X3 H) (ct_X3_allots H a0) (lw_V q2846 q2848 qs70 q112 q2849) ⟨rfl, hd_X3_allots⟩ ⟨(Nat.le_of_ble_eq_true rfl), (Nat.le_of_ble_eq_true rfl)⟩ rfl hl.1 rfl (zw_le zw_nil (Nat.le_of_ble_eq_true rfl)) dX3_does_125) (fun v125 => ?_)
              exact rk_top (rf_iret C rfl dX3_does_128)
theorem hd_X3_isWish : yX3_isWish.cls ≠ "java/lang/invoke/MethodHandle" ∧ yX3_isWish.cls ≠ "java/lang/invoke/VarHandle" ∧ (parseMethodDescriptor yX3_isWish.desc).map (fun d => d.parameters.length) = some 1 := by decide +kernel
noncomputable def fn_X3_isWish (K : zm_K) (a0 : zm_R) (a1 : Int32) : zm_M Int32 :=
  zm_bnd (zm_getR a0 20 0) fun v3 =>
  zm_bnd (zm_aldI .int v3 2) fun v7 =>
  zm_bnd (fn_X3_isIn K a1 0 (v7 - 1)) fun v10 =>
  zm_bnd (zm_grd (v10 = 0 ∨ v10 = 1)) fun _ =>
  zm_ret v10
theorem ct_X3_isWish {l : Launch} {Ω : zm_W} {K : zm_K} (H : zm_H Ω K) (a0 : zm_R) (a1 : Int32) : zm_Ct l Ω yX3_isWish (ws_ yX3_isWish cX3_isWish 2 (Option.some Jvm.ClassFile.FieldType.boolean)) 2 86 [va_rf a0, .int a1] zm_tvI (fn_X3_isWish K a0 a1) := by
  refine zm_ct H.1 (by decide +kernel) (zl_le (zl_R (zl_I zl_nil)) (Nat.le_of_ble_eq_true rfl)) ?_
  intro p e R s m args below meth c n0 k0 C hX ls hl
  have hx := C.1
  have hb := C.2.1
  simp only [zg_I, zg_R, zg_nil] at hl
  have hl : lv_has ls 2 [(0, va_rf a0), (1, .int a1)] := hl
  refine rk_rf ?_
  unfold fn_X3_isWish
  refine rk_of (fun _ _ _ _ _ k => lv_iload_n hx hb dX3_isWish_0 rfl (lv_at hl 1 rfl) (lv_iconst (v := 0) hx hb dX3_isWish_1 rfl (lr_aload_n hx hb dX3_isWish_2 rfl (lv_at hl 0 rfl) k))) ?_
  refine rk_get zm_rdR_eq C (hc_X3 H) (k := 0) (Nat.le_of_ble_eq_true rfl) in_X3 q2577 (fun _ h => h) dX3_isWish_3 (fun v3 => ?_)
  refine rk_of (fun _ _ _ _ _ k => lv_iconst (v := 2) hx hb dX3_isWish_6 rfl k) ?_
  refine rk_iald C dX3_isWish_7 (fun v7 => ?_)
  refine rk_of (fun _ _ _ _ _ k => lv_iconst (v := 1) hx hb dX3_isWish_8 rfl (lv_isub hx hb dX3_isWish_9 k)) ?_
  refine rk_callI hX (cl_S (rest := []) C (ct_X3_isIn H a1 0 (v7 - 1)) (lw_S q2662 q2663 q112 q2664) hd_X3_isIn ⟨(Nat.le_of_ble_eq_true rfl), (Nat.le_of_ble_eq_true rfl)⟩ rfl hl.1 rfl (zw_le zw_nil (Nat.le_of_ble_eq_true rfl)) dX3_isWish_10) (fun v10 => ?_)
  refine rk_grd (fun hg_13 => ?_)
  exact rk_top (rf_iret C (zn_Z hg_13) dX3_isWish_13)
theorem hd_X3_drop : yX3_drop.cls ≠ "java/lang/invoke/MethodHandle" ∧ yX3_drop.cls ≠ "java/lang/invoke/VarHandle" ∧ (parseMethodDescriptor yX3_drop.desc).map (fun d => d.parameters.length) = some 1 := by decide +kernel
noncomputable def fn_X3_drop (K : zm_K) (a0 : zm_R) (a1 : Int32) : zm_M Int32 :=
  zm_bnd (zm_bnd (zm_is a0 20) fun _ => fn_X3_keeps K a0) fun _ =>
  zm_bnd (zm_bnd (zm_is a0 20) fun _ => fn_X3_isWish K a0 a1) fun v7 =>
  zm_bnd (α := Int32) (
      if v7 = 0 then
        zm_ret 1
      else
        zm_ret 0
    ) fun b18 =>
  zm_bnd (zm_bnd (zm_is a0 20) fun _ => fn_X3_isThrown K a0 b18 1) fun v19 =>
  if v19 = 0 then
    zm_bnd (zm_bnd (zm_is a0 20) fun _ => fn_X3_drops K a0 a1) fun v30 =>
    zm_bnd (zm_bnd (zm_is a0 20) fun _ => fn_X3_ends K a0 v30 2) fun v34 =>
    zm_ret v34
  else
    zm_ret 0
theorem ct_X3_drop {l : Launch} {Ω : zm_W} {K : zm_K} (H : zm_H Ω K) (a0 : zm_R) (a1 : Int32) : zm_Ct l Ω yX3_drop (ws_ yX3_drop cX3_drop 2 (Option.some Jvm.ClassFile.FieldType.int)) 4 131 [va_rf a0, .int a1] zm_tvI (fn_X3_drop K a0 a1) := by
  refine zm_ct H.1 (by decide +kernel) (zl_le (zl_R (zl_I zl_nil)) (Nat.le_of_ble_eq_true rfl)) ?_
  intro p e R s m args below meth c n0 k0 C hX ls hl
  have hx := C.1
  have hb := C.2.1
  simp only [zg_I, zg_R, zg_nil] at hl
  have hl : lv_has ls 2 [(0, va_rf a0), (1, .int a1)] := hl
  refine rk_rf ?_
  unfold fn_X3_drop
  refine rk_of (fun _ _ _ _ _ k => lr_aload_n hx hb dX3_drop_0 rfl (lv_at hl 0 rfl) k) ?_
  refine rk_callV hX (cl_V (rest := []) (av := []) C (hc_X3 H) (ct_X3_keeps H a0) (lw_V q2655 q2657 qs45 q112 q2658) ⟨rfl, hd_X3_keeps⟩ ⟨(Nat.le_of_ble_eq_true rfl), (Nat.le_of_ble_eq_true rfl)⟩ rfl hl.1 rfl (zw_le zw_nil (Nat.le_of_ble_eq_true rfl)) dX3_drop_1) (fun _ => ?_)
  refine rk_of (fun _ _ _ _ _ k => lr_aload_n hx hb dX3_drop_4 rfl (lv_at hl 0 rfl) (lr_aload_n hx hb dX3_drop_5 rfl (lv_at hl 0 rfl) (lv_iload_n hx hb dX3_drop_6 rfl (lv_at hl 1 rfl) k))) ?_
  refine rk_callI hX (cl_V (rest := [va_rf a0]) (av := [.int a1]) C (hc_X3 H) (ct_X3_isWish H a0 a1) (lw_V q2802 q2804 qs66 q112 q2805) ⟨rfl, hd_X3_isWish⟩ ⟨(Nat.le_of_ble_eq_true rfl), (Nat.le_of_ble_eq_true rfl)⟩ rfl hl.1 rfl (zw_le (zw_R zw_nil) (Nat.le_of_ble_eq_true rfl)) dX3_drop_7) (fun v7 => ?_)
  refine rk_join (β := Int32) (fun (b18 : Int32) ls => lv_has ls 2 [(0, va_rf a0), (1, .int a1)]) (fun (b18 : Int32) ls => F0 m 18 ls [.int b18, va_rf a0]) (fun b18 ls hl => ?_) (fun hJ18 => ?_)
  · refine rk_of (fun _ _ _ _ _ k => lv_iconst (v := 1) hx hb dX3_drop_18 rfl k) ?_
    refine rk_callI hX (cl_V (rest := []) (av := [.int b18, .int 1]) C (hc_X3 H) (ct_X3_isThrown H a0 b18 1) (lw_V q2665 q2667 qs46 q112 q2668) ⟨rfl, hd_X3_isThrown⟩ ⟨(Nat.le_of_ble_eq_true rfl), (Nat.le_of_ble_eq_true rfl)⟩ rfl hl.1 rfl (zw_le zw_nil (Nat.le_of_ble_eq_true rfl)) dX3_drop_19) (fun v19 => ?_)
    refine rk_ite (fun _ _ _ _ _ k1 k2 => lv_if_eq (tgt := 27) hx hb dX3_drop_22 (by decide) k1 k2) (fun c_22 => ?_) (fun c_22 => ?_)
    · refine rk_of (fun _ _ _ _ _ k => lr_aload_n hx hb dX3_drop_27 rfl (lv_at hl 0 rfl) (lr_aload_n hx hb dX3_drop_28 rfl (lv_at hl 0 rfl) (lv_iload_n hx hb dX3_drop_29 rfl (lv_at hl 1 rfl) k))) ?_
      refine rk_callI hX (cl_V (rest := [va_rf a0]) (av := [.int a1]) C (hc_X3 H) (ct_X3_drops H a0 a1) (lw_V q2806 q2808 qs67 q112 q2809) ⟨rfl, hd_X3_drops⟩ ⟨(Nat.le_of_ble_eq_true rfl), (Nat.le_of_ble_eq_true rfl)⟩ rfl hl.1 rfl (zw_le (zw_R zw_nil) (Nat.le_of_ble_eq_true rfl)) dX3_drop_30) (fun v30 => ?_)
      refine rk_of (fun _ _ _ _ _ k => lv_iconst (v := 2) hx hb dX3_drop_33 rfl k) ?_
      refine rk_callI hX (cl_V (rest := []) (av := [.int v30, .int 2]) C (hc_X3 H) (ct_X3_ends H a0 v30 2) (lw_V q2673 q2675 qs48 q112 q2676) ⟨rfl, hd_X3_ends⟩ ⟨(Nat.le_of_ble_eq_true rfl), (Nat.le_of_ble_eq_true rfl)⟩ rfl hl.1 rfl (zw_le zw_nil (Nat.le_of_ble_eq_true rfl)) dX3_drop_34) (fun v34 => ?_)
      exact rk_top (rf_iret C rfl dX3_drop_37)
    · refine rk_of (fun _ _ _ _ _ k => lv_iconst (v := 0) hx hb dX3_drop_25 rfl k) ?_
      exact rk_top (rf_iret C rfl dX3_drop_26)
  · refine rk_ite (fun _ _ _ _ _ k1 k2 => lv_if_ne (tgt := 17) hx hb dX3_drop_10 (by decide) k2 k1) (fun c_10 => ?_) (fun c_10 => ?_)
    · refine rk_of (fun _ _ _ _ _ k => lv_iconst (v := 1) hx hb dX3_drop_13 rfl (lv_goto (tgt := 18) hx hb dX3_drop_14 (by decide) k)) ?_
      exact hJ18 1 ls (lv_sub hl [0, 1] rfl)
    · refine rk_of (fun _ _ _ _ _ k => lv_iconst (v := 0) hx hb dX3_drop_17 rfl k) ?_
      exact hJ18 0 ls (lv_sub hl [0, 1] rfl)
theorem hd_X3_endOf : yX3_endOf.cls ≠ "java/lang/invoke/MethodHandle" ∧ yX3_endOf.cls ≠ "java/lang/invoke/VarHandle" ∧ (parseMethodDescriptor yX3_endOf.desc).map (fun d => d.parameters.length) = some 4 := by decide +kernel
noncomputable def fn_X3_endOf (K : zm_K) (a0 : zm_R) (a1 : Int32) (a2 : Int32) (a3 : Int32) (a4 : Int32) : zm_M Int32 :=
  zm_bnd (zm_bnd (zm_is a0 20) fun _ => fn_X3_isBox K a0 a1) fun v3 =>
  zm_bnd (α := Int32) (
      if v3 = 0 then
        zm_ret 1
      else
        zm_ret 0
    ) fun b14 =>
  zm_bnd (zm_bnd (zm_is a0 20) fun _ => fn_X3_isThrown K a0 b14 1) fun v15 =>
  if v15 = 0 then
    zm_bnd (zm_bnd (zm_is a0 20) fun _ => fn_X3_spans K a0 a1 a2 a3) fun v28 =>
    zm_bnd (fn_X3_isIn K a3 0 (v28 - 1)) fun v33 =>
    zm_bnd (α := Int32) (
        if v33 = 0 then
          zm_ret 1
        else
          zm_ret 0
      ) fun b44 =>
    zm_bnd (zm_bnd (zm_is a0 20) fun _ => fn_X3_isThrown K a0 b44 2) fun v45 =>
    if v45 = 0 then
      zm_bnd (zm_getR a0 20 13) fun v54 =>
      zm_bnd (α := Int32) (
          if a4 = 0 then
            zm_ret 0
          else
            zm_ret 1
        ) fun b67 =>
      zm_bnd (zm_aldI .int v54 b67) fun v67 =>
      zm_ret v67
    else
      zm_ret 0
  else
    zm_ret 0
theorem ct_X3_endOf {l : Launch} {Ω : zm_W} {K : zm_K} (H : zm_H Ω K) (a0 : zm_R) (a1 : Int32) (a2 : Int32) (a3 : Int32) (a4 : Int32) : zm_Ct l Ω yX3_endOf (ws_ yX3_endOf cX3_endOf 5 (Option.some Jvm.ClassFile.FieldType.int)) 8 226 [va_rf a0, .int a1, .int a2, .int a3, .int a4] zm_tvI (fn_X3_endOf K a0 a1 a2 a3 a4) := by
  refine zm_ct H.1 (by decide +kernel) (zl_le (zl_R (zl_I (zl_I (zl_I (zl_I zl_nil))))) (Nat.le_of_ble_eq_true rfl)) ?_
  intro p e R s m args below meth c n0 k0 C hX ls hl
  have hx := C.1
  have hb := C.2.1
  simp only [zg_I, zg_R, zg_nil] at hl
  have hl : lv_has ls 5 [(0, va_rf a0), (1, .int a1), (2, .int a2), (3, .int a3), (4, .int a4)] := hl
  refine rk_rf ?_
  unfold fn_X3_endOf
  refine rk_of (fun _ _ _ _ _ k => lr_aload_n hx hb dX3_endOf_0 rfl (lv_at hl 0 rfl) (lr_aload_n hx hb dX3_endOf_1 rfl (lv_at hl 0 rfl) (lv_iload_n hx hb dX3_endOf_2 rfl (lv_at hl 1 rfl) k))) ?_
  refine rk_callI hX (cl_V (rest := [va_rf a0]) (av := [.int a1]) C (hc_X3 H) (ct_X3_isBox H a0 a1) (lw_V q2685 q2687 qs50 q112 q2688) ⟨rfl, hd_X3_isBox⟩ ⟨(Nat.le_of_ble_eq_true rfl), (Nat.le_of_ble_eq_true rfl)⟩ rfl hl.1 rfl (zw_le (zw_R zw_nil) (Nat.le_of_ble_eq_true rfl)) dX3_endOf_3) (fun v3 => ?_)
  refine rk_join (β := Int32) (fun (b14 : Int32) ls => lv_has ls 5 [(0, va_rf a0), (1, .int a1), (2, .int a2), (3, .int a3), (4, .int a4)]) (fun (b14 : Int32) ls => F0 m 14 ls [.int b14, va_rf a0]) (fun b14 ls hl => ?_) (fun hJ14 => ?_)
  · refine rk_of (fun _ _ _ _ _ k => lv_iconst (v := 1) hx hb dX3_endOf_14 rfl k) ?_
    refine rk_callI hX (cl_V (rest := []) (av := [.int b14, .int 1]) C (hc_X3 H) (ct_X3_isThrown H a0 b14 1) (lw_V q2665 q2667 qs46 q112 q2668) ⟨rfl, hd_X3_isThrown⟩ ⟨(Nat.le_of_ble_eq_true rfl), (Nat.le_of_ble_eq_true rfl)⟩ rfl hl.1 rfl (zw_le zw_nil (Nat.le_of_ble_eq_true rfl)) dX3_endOf_15) (fun v15 => ?_)
    refine rk_ite (fun _ _ _ _ _ k1 k2 => lv_if_ne (tgt := 51) hx hb dX3_endOf_18 (by decide) k2 k1) (fun c_18 => ?_) (fun c_18 => ?_)
    · refine rk_of (fun _ _ _ _ _ k => lr_aload_n hx hb dX3_endOf_21 rfl (lv_at hl 0 rfl) (lv_iload_n hx hb dX3_endOf_22 rfl (lv_at hl 3 rfl) (lv_iconst (v := 0) hx hb dX3_endOf_23 rfl (lr_aload_n hx hb dX3_endOf_24 rfl (lv_at hl 0 rfl) (lv_iload_n hx hb dX3_endOf_25 rfl (lv_at hl 1 rfl) (lv_iload_n hx hb dX3_endOf_26 rfl (lv_at hl 2 rfl) (lv_iload_n hx hb dX3_endOf_27 rfl (lv_at hl 3 rfl) k))))))) ?_
      refine rk_callI hX (cl_V (rest := [.int 0, .int a3, va_rf a0]) (av := [.int a1, .int a2, .int a3]) C (hc_X3 H) (ct_X3_spans H a0 a1 a2 a3) (lw_V q2878 q2880 qs77 q112 q2881) ⟨rfl, hd_X3_spans⟩ ⟨(Nat.le_of_ble_eq_true rfl), (Nat.le_of_ble_eq_true rfl)⟩ rfl hl.1 rfl (zw_le (zw_I (zw_I (zw_R zw_nil))) (Nat.le_of_ble_eq_true rfl)) dX3_endOf_28) (fun v28 => ?_)
      refine rk_of (fun _ _ _ _ _ k => lv_iconst (v := 1) hx hb dX3_endOf_31 rfl (lv_isub hx hb dX3_endOf_32 k)) ?_
      refine rk_callI hX (cl_S (rest := [va_rf a0]) C (ct_X3_isIn H a3 0 (v28 - 1)) (lw_S q2662 q2663 q112 q2664) hd_X3_isIn ⟨(Nat.le_of_ble_eq_true rfl), (Nat.le_of_ble_eq_true rfl)⟩ rfl hl.1 rfl (zw_le (zw_R zw_nil) (Nat.le_of_ble_eq_true rfl)) dX3_endOf_33) (fun v33 => ?_)
      refine rk_join (β := Int32) (fun (b44 : Int32) ls => lv_has ls 5 [(0, va_rf a0), (4, .int a4)]) (fun (b44 : Int32) ls => F0 m 44 ls [.int b44, va_rf a0]) (fun b44 ls hl => ?_) (fun hJ44 => ?_)
      · refine rk_of (fun _ _ _ _ _ k => lv_iconst (v := 2) hx hb dX3_endOf_44 rfl k) ?_
        refine rk_callI hX (cl_V (rest := []) (av := [.int b44, .int 2]) C (hc_X3 H) (ct_X3_isThrown H a0 b44 2) (lw_V q2665 q2667 qs46 q112 q2668) ⟨rfl, hd_X3_isThrown⟩ ⟨(Nat.le_of_ble_eq_true rfl), (Nat.le_of_ble_eq_true rfl)⟩ rfl hl.1 rfl (zw_le zw_nil (Nat.le_of_ble_eq_true rfl)) dX3_endOf_45) (fun v45 => ?_)
        refine rk_ite (fun _ _ _ _ _ k1 k2 => lv_if_eq (tgt := 53) hx hb dX3_endOf_48 (by decide) k1 k2) (fun c_48 => ?_) (fun c_48 => ?_)
        · refine rk_of (fun _ _ _ _ _ k => lr_aload_n hx hb dX3_endOf_53 rfl (lv_at hl 0 rfl) k) ?_
          refine rk_get zm_rdR_eq C (hc_X3 H) (k := 13) (Nat.le_of_ble_eq_true rfl) in_X3 q2590 (fun _ h => h) dX3_endOf_54 (fun v54 => ?_)
          refine rk_of (fun _ _ _ _ _ k => lv_iload hx hb dX3_endOf_57 (lv_at hl 1 rfl) k) ?_
          refine rk_join (β := Int32) (fun (b67 : Int32) ls => lv_has ls 5 []) (fun (b67 : Int32) ls => F0 m 67 ls [.int b67, va_rf v54]) (fun b67 ls hl => ?_) (fun hJ67 => ?_)
          · refine rk_iald C dX3_endOf_67 (fun v67 => ?_)
            exact rk_top (rf_iret C rfl dX3_endOf_68)
          · refine rk_ite (fun _ _ _ _ _ k1 k2 => lv_if_eq (tgt := 66) hx hb dX3_endOf_59 (by decide) k1 k2) (fun c_59 => ?_) (fun c_59 => ?_)
            · refine rk_of (fun _ _ _ _ _ k => lv_iconst (v := 0) hx hb dX3_endOf_66 rfl k) ?_
              exact hJ67 0 ls (lv_sub hl [] rfl)
            · refine rk_of (fun _ _ _ _ _ k => lv_iconst (v := 1) hx hb dX3_endOf_62 rfl (lv_goto (tgt := 67) hx hb dX3_endOf_63 (by decide) k)) ?_
              exact hJ67 1 ls (lv_sub hl [] rfl)
        · refine rk_of (fun _ _ _ _ _ k => lv_iconst (v := 0) hx hb dX3_endOf_51 rfl k) ?_
          exact rk_top (rf_iret C rfl dX3_endOf_52)
      · refine rk_ite (fun _ _ _ _ _ k1 k2 => lv_if_ne (tgt := 43) hx hb dX3_endOf_36 (by decide) k2 k1) (fun c_36 => ?_) (fun c_36 => ?_)
        · refine rk_of (fun _ _ _ _ _ k => lv_iconst (v := 1) hx hb dX3_endOf_39 rfl (lv_goto (tgt := 44) hx hb dX3_endOf_40 (by decide) k)) ?_
          exact hJ44 1 ls (lv_sub hl [0, 4] rfl)
        · refine rk_of (fun _ _ _ _ _ k => lv_iconst (v := 0) hx hb dX3_endOf_43 rfl k) ?_
          exact hJ44 0 ls (lv_sub hl [0, 4] rfl)
    · refine rk_of (fun _ _ _ _ _ k => lv_iconst (v := 0) hx hb dX3_endOf_51 rfl k) ?_
      exact rk_top (rf_iret C rfl dX3_endOf_52)
  · refine rk_ite (fun _ _ _ _ _ k1 k2 => lv_if_ne (tgt := 13) hx hb dX3_endOf_6 (by decide) k2 k1) (fun c_6 => ?_) (fun c_6 => ?_)
    · refine rk_of (fun _ _ _ _ _ k => lv_iconst (v := 1) hx hb dX3_endOf_9 rfl (lv_goto (tgt := 14) hx hb dX3_endOf_10 (by decide) k)) ?_
      exact hJ14 1 ls (lv_sub hl [0, 1, 2, 3, 4] rfl)
    · refine rk_of (fun _ _ _ _ _ k => lv_iconst (v := 0) hx hb dX3_endOf_13 rfl k) ?_
      exact hJ14 0 ls (lv_sub hl [0, 1, 2, 3, 4] rfl)
theorem hd_X3_errorPosition : yX3_errorPosition.cls ≠ "java/lang/invoke/MethodHandle" ∧ yX3_errorPosition.cls ≠ "java/lang/invoke/VarHandle" ∧ (parseMethodDescriptor yX3_errorPosition.desc).map (fun d => d.parameters.length) = some 0 := by decide +kernel
noncomputable def fn_X3_errorPosition (K : zm_K) (a0 : zm_R) : zm_M Int32 :=
  zm_bnd (zm_getI a0 20 10) fun v2 =>
  zm_bnd (α := Int32) (
      if 0 ≤ v2 then
        zm_ret 0
      else
        zm_ret 1
    ) fun b13 =>
  zm_bnd (zm_bnd (zm_is a0 20) fun _ => fn_X3_isThrown K a0 b13 1) fun v14 =>
  if v14 = 0 then
    zm_bnd (zm_getI a0 20 10) fun v25 =>
    zm_ret v25
  else
    zm_ret 0
theorem ct_X3_errorPosition {l : Launch} {Ω : zm_W} {K : zm_K} (H : zm_H Ω K) (a0 : zm_R) : zm_Ct l Ω yX3_errorPosition (ws_ yX3_errorPosition cX3_errorPosition 1 (Option.some Jvm.ClassFile.FieldType.int)) 2 86 [va_rf a0] zm_tvI (fn_X3_errorPosition K a0) := by
  refine zm_ct H.1 (by decide +kernel) (zl_le (zl_R zl_nil) (Nat.le_of_ble_eq_true rfl)) ?_
  intro p e R s m args below meth c n0 k0 C hX ls hl
  have hx := C.1
  have hb := C.2.1
  simp only [zg_R, zg_nil] at hl
  have hl : lv_has ls 1 [(0, va_rf a0)] := hl
  refine rk_rf ?_
  unfold fn_X3_errorPosition
  refine rk_of (fun _ _ _ _ _ k => lr_aload_n hx hb dX3_errorPosition_0 rfl (lv_at hl 0 rfl) (lr_aload_n hx hb dX3_errorPosition_1 rfl (lv_at hl 0 rfl) k)) ?_
  refine rk_get zm_rdI_eq C (hc_X3 H) (k := 10) (Nat.le_of_ble_eq_true rfl) in_X3 q2587 (fun _ h => h) dX3_errorPosition_2 (fun v2 => ?_)
  refine rk_join (β := Int32) (fun (b13 : Int32) ls => lv_has ls 1 [(0, va_rf a0)]) (fun (b13 : Int32) ls => F0 m 13 ls [.int b13, va_rf a0]) (fun b13 ls hl => ?_) (fun hJ13 => ?_)
  · refine rk_of (fun _ _ _ _ _ k => lv_iconst (v := 1) hx hb dX3_errorPosition_13 rfl k) ?_
    refine rk_callI hX (cl_V (rest := []) (av := [.int b13, .int 1]) C (hc_X3 H) (ct_X3_isThrown H a0 b13 1) (lw_V q2665 q2667 qs46 q112 q2668) ⟨rfl, hd_X3_isThrown⟩ ⟨(Nat.le_of_ble_eq_true rfl), (Nat.le_of_ble_eq_true rfl)⟩ rfl hl.1 rfl (zw_le zw_nil (Nat.le_of_ble_eq_true rfl)) dX3_errorPosition_14) (fun v14 => ?_)
    refine rk_ite (fun _ _ _ _ _ k1 k2 => lv_if_eq (tgt := 24) hx hb dX3_errorPosition_17 (by decide) k1 k2) (fun c_17 => ?_) (fun c_17 => ?_)
    · refine rk_of (fun _ _ _ _ _ k => lr_aload_n hx hb dX3_errorPosition_24 rfl (lv_at hl 0 rfl) k) ?_
      refine rk_get zm_rdI_eq C (hc_X3 H) (k := 10) (Nat.le_of_ble_eq_true rfl) in_X3 q2587 (fun _ h => h) dX3_errorPosition_25 (fun v25 => ?_)
      exact rk_top (rf_iret C rfl dX3_errorPosition_28)
    · refine rk_of (fun _ _ _ _ _ k => lv_iconst (v := 0) hx hb dX3_errorPosition_20 rfl (lv_goto (tgt := 28) hx hb dX3_errorPosition_21 (by decide) k)) ?_
      exact rk_top (rf_iret C rfl dX3_errorPosition_28)
  · refine rk_ite (fun _ _ _ _ _ k1 k2 => lv_if_ge (tgt := 12) hx hb dX3_errorPosition_5 (by decide) k1 k2) (fun c_5 => ?_) (fun c_5 => ?_)
    · refine rk_of (fun _ _ _ _ _ k => lv_iconst (v := 0) hx hb dX3_errorPosition_12 rfl k) ?_
      exact hJ13 0 ls (lv_sub hl [0] rfl)
    · refine rk_of (fun _ _ _ _ _ k => lv_iconst (v := 1) hx hb dX3_errorPosition_8 rfl (lv_goto (tgt := 13) hx hb dX3_errorPosition_9 (by decide) k)) ?_
      exact hJ13 1 ls (lv_sub hl [0] rfl)
theorem hd_X3_fits : yX3_fits.cls ≠ "java/lang/invoke/MethodHandle" ∧ yX3_fits.cls ≠ "java/lang/invoke/VarHandle" ∧ (parseMethodDescriptor yX3_fits.desc).map (fun d => d.parameters.length) = some 2 := by decide +kernel
noncomputable def fn_X3_fits_49 (K : zm_K) (p0 : zm_R) (p1 : Int32) (p2 : Int32) : Nat → Int32 → zm_M ((Unit) ⊕ (Int32))
  | 0, _ => zm_fl
  | n + 1, x3 =>
    if 600 < (x3 + p2) then
      zm_ret (Sum.inl ())
    else
      zm_bnd (zm_bnd (zm_is p0 20) fun _ => fn_X3_letIn K p0 p1 x3 (x3 + p2)) fun v64 =>
      if v64 = 0 then
        zm_ret (Sum.inr x3)
      else
        fn_X3_fits_49 K p0 p1 p2 n (x3 + 1)
noncomputable def fn_X3_fits (K : zm_K) (a0 : zm_R) (a1 : Int32) (a2 : Int32) : zm_M Int32 :=
  zm_bnd (zm_bnd (zm_is a0 20) fun _ => fn_X3_isBox K a0 a1) fun v3 =>
  zm_bnd (α := Int32) (
      if v3 = 0 then
        zm_ret 1
      else
        zm_ret 0
    ) fun b14 =>
  zm_bnd (zm_bnd (zm_is a0 20) fun _ => fn_X3_isThrown K a0 b14 1) fun v15 =>
  if v15 = 0 then
    zm_bnd (fn_X3_isIn K a2 1 600) fun v27 =>
    zm_bnd (α := Int32) (
        if v27 = 0 then
          zm_ret 1
        else
          zm_ret 0
      ) fun b38 =>
    zm_bnd (zm_bnd (zm_is a0 20) fun _ => fn_X3_isThrown K a0 b38 2) fun v39 =>
    if v39 = 0 then
      zm_bnx (β := Unit) (fn_X3_fits_49 K a0 a1 a2 zm_N 0) fun (_ : Unit) =>
      zm_bnd (zm_putF K a0 20 5 (.int 3)) fun _ =>
      zm_ret 0
    else
      zm_ret 0
  else
    zm_ret 0
theorem rf_X3_fits_49 (H : zm_H Ω K) (C : zm_C p l R s m args meth c Ω lw_all cX3_fits yX3_fits.cls yX3_fits.name 4 5 153 (Option.some Jvm.ClassFile.FieldType.int)) (hX : zm_XO p l e R s m args below meth c Ω n0 k0 (zm_QFs below args s Ω n0 k0 zm_tvI)) (p0 : zm_R) (p1 : Int32) (p2 : Int32) : ∀ (n : Nat) (x3 : Int32) (J : ((Unit) ⊕ (Int32)) → zm_M Int32) (ls : Array Slot), lv_has ls 4 [(0, va_rf p0), (1, .int p1), (2, .int p2), (3, .int x3)] → (∀ (b : Unit) (ls : Array Slot), lv_has ls 4 [(0, va_rf p0)] → zm_RK p l e R s m args below meth c Ω n0 k0 (zm_QFs below args s Ω n0 k0 zm_tvI) (zm_ret (Sum.inl b)) J (F0 m 78 ls [])) → (∀ (v : Int32) (g : JFrame), zm_RF p l e R s m args below meth c Ω n0 k0 (zm_QFs below args s Ω n0 k0 zm_tvI) (zm_ret v) g → zm_RK p l e R s m args below meth c Ω n0 k0 (zm_QFs below args s Ω n0 k0 zm_tvI) (zm_ret (Sum.inr v)) J g) → zm_RK p l e R s m args below meth c Ω n0 k0 (zm_QFs below args s Ω n0 k0 zm_tvI) (fn_X3_fits_49 K p0 p1 p2 n x3) J (F0 m 49 ls []) := by
  have hx := C.1
  have hb := C.2.1
  intro n
  induction n with
  | zero => intro x3 J ls hl hJ hR; exact rk_fl
  | succ n ih =>
    intro x3 J ls hl hJ hR
    unfold fn_X3_fits_49
    refine rk_ite (fun _ _ _ _ _ k1 k2 => lv_iload_n hx hb dX3_fits_49 rfl (lv_at hl 3 rfl) (lv_iload_n hx hb dX3_fits_50 rfl (lv_at hl 2 rfl) (lv_iadd hx hb dX3_fits_51 (lv_sipush (v := 600) hx hb dX3_fits_52 rfl (lv_icmp_gt (tgt := 78) hx hb dX3_fits_55 (by decide) k1 k2))))) (fun c_55 => ?_) (fun c_55 => ?_)
    · exact hJ () ls (lv_sub hl [0] rfl)
    · refine rk_of (fun _ _ _ _ _ k => lr_aload_n hx hb dX3_fits_58 rfl (lv_at hl 0 rfl) (lv_iload_n hx hb dX3_fits_59 rfl (lv_at hl 1 rfl) (lv_iload_n hx hb dX3_fits_60 rfl (lv_at hl 3 rfl) (lv_iload_n hx hb dX3_fits_61 rfl (lv_at hl 3 rfl) (lv_iload_n hx hb dX3_fits_62 rfl (lv_at hl 2 rfl) (lv_iadd hx hb dX3_fits_63 k)))))) ?_
      refine rk_callI hX (cl_V (rest := []) (av := [.int p1, .int x3, .int (x3 + p2)]) C (hc_X3 H) (ct_X3_letIn H p0 p1 x3 (x3 + p2)) (lw_V q2874 q2876 qs76 q112 q2877) ⟨rfl, hd_X3_letIn⟩ ⟨(Nat.le_of_ble_eq_true rfl), (Nat.le_of_ble_eq_true rfl)⟩ rfl hl.1 rfl (zw_le zw_nil (Nat.le_of_ble_eq_true rfl)) dX3_fits_64) (fun v64 => ?_)
      refine rk_ite (fun _ _ _ _ _ k1 k2 => lv_if_ne (tgt := 72) hx hb dX3_fits_67 (by decide) k2 k1) (fun c_67 => ?_) (fun c_67 => ?_)
      · refine rk_of (fun _ _ _ _ _ k => lv_iload_n hx hb dX3_fits_70 rfl (lv_at hl 3 rfl) k) ?_
        exact hR _ _ (rf_iret C rfl dX3_fits_71)
      · refine rk_ofs (fun _ _ _ _ _ k => lr_iinc (v := x3 + 1) hx hb dX3_fits_72 hl (k := 3) rfl rfl (Nat.le_of_ble_eq_true rfl) [0, 1, 2] rfl ⟨trivial, ⟨trivial, ⟨rfl, trivial⟩⟩⟩ k) (fun ls hl => ?_)
        refine rk_of (fun _ _ _ _ _ k => lv_goto (tgt := 49) hx hb dX3_fits_75 (by decide) k) ?_
        exact ih (x3 + 1) J ls (lv_sub hl [1, 2, 3, 0] rfl) hJ hR
theorem ct_X3_fits {l : Launch} {Ω : zm_W} {K : zm_K} (H : zm_H Ω K) (a0 : zm_R) (a1 : Int32) (a2 : Int32) : zm_Ct l Ω yX3_fits (ws_ yX3_fits cX3_fits 4 (Option.some Jvm.ClassFile.FieldType.int)) 5 153 [va_rf a0, .int a1, .int a2] zm_tvI (fn_X3_fits K a0 a1 a2) := by
  refine zm_ct H.1 (by decide +kernel) (zl_le (zl_R (zl_I (zl_I zl_nil))) (Nat.le_of_ble_eq_true rfl)) ?_
  intro p e R s m args below meth c n0 k0 C hX ls hl
  have hx := C.1
  have hb := C.2.1
  simp only [zg_I, zg_R, zg_nil] at hl
  have hl : lv_has ls 4 [(0, va_rf a0), (1, .int a1), (2, .int a2)] := hl
  refine rk_rf ?_
  unfold fn_X3_fits
  refine rk_of (fun _ _ _ _ _ k => lr_aload_n hx hb dX3_fits_0 rfl (lv_at hl 0 rfl) (lr_aload_n hx hb dX3_fits_1 rfl (lv_at hl 0 rfl) (lv_iload_n hx hb dX3_fits_2 rfl (lv_at hl 1 rfl) k))) ?_
  refine rk_callI hX (cl_V (rest := [va_rf a0]) (av := [.int a1]) C (hc_X3 H) (ct_X3_isBox H a0 a1) (lw_V q2685 q2687 qs50 q112 q2688) ⟨rfl, hd_X3_isBox⟩ ⟨(Nat.le_of_ble_eq_true rfl), (Nat.le_of_ble_eq_true rfl)⟩ rfl hl.1 rfl (zw_le (zw_R zw_nil) (Nat.le_of_ble_eq_true rfl)) dX3_fits_3) (fun v3 => ?_)
  refine rk_join (β := Int32) (fun (b14 : Int32) ls => lv_has ls 4 [(0, va_rf a0), (1, .int a1), (2, .int a2)]) (fun (b14 : Int32) ls => F0 m 14 ls [.int b14, va_rf a0]) (fun b14 ls hl => ?_) (fun hJ14 => ?_)
  · refine rk_of (fun _ _ _ _ _ k => lv_iconst (v := 1) hx hb dX3_fits_14 rfl k) ?_
    refine rk_callI hX (cl_V (rest := []) (av := [.int b14, .int 1]) C (hc_X3 H) (ct_X3_isThrown H a0 b14 1) (lw_V q2665 q2667 qs46 q112 q2668) ⟨rfl, hd_X3_isThrown⟩ ⟨(Nat.le_of_ble_eq_true rfl), (Nat.le_of_ble_eq_true rfl)⟩ rfl hl.1 rfl (zw_le zw_nil (Nat.le_of_ble_eq_true rfl)) dX3_fits_15) (fun v15 => ?_)
    refine rk_ite (fun _ _ _ _ _ k1 k2 => lv_if_ne (tgt := 45) hx hb dX3_fits_18 (by decide) k2 k1) (fun c_18 => ?_) (fun c_18 => ?_)
    · refine rk_of (fun _ _ _ _ _ k => lr_aload_n hx hb dX3_fits_21 rfl (lv_at hl 0 rfl) (lv_iload_n hx hb dX3_fits_22 rfl (lv_at hl 2 rfl) (lv_iconst (v := 1) hx hb dX3_fits_23 rfl (lv_sipush (v := 600) hx hb dX3_fits_24 rfl k)))) ?_
      refine rk_callI hX (cl_S (rest := [va_rf a0]) C (ct_X3_isIn H a2 1 600) (lw_S q2662 q2663 q112 q2664) hd_X3_isIn ⟨(Nat.le_of_ble_eq_true rfl), (Nat.le_of_ble_eq_true rfl)⟩ rfl hl.1 rfl (zw_le (zw_R zw_nil) (Nat.le_of_ble_eq_true rfl)) dX3_fits_27) (fun v27 => ?_)
      refine rk_join (β := Int32) (fun (b38 : Int32) ls => lv_has ls 4 [(0, va_rf a0), (1, .int a1), (2, .int a2)]) (fun (b38 : Int32) ls => F0 m 38 ls [.int b38, va_rf a0]) (fun b38 ls hl => ?_) (fun hJ38 => ?_)
      · refine rk_of (fun _ _ _ _ _ k => lv_iconst (v := 2) hx hb dX3_fits_38 rfl k) ?_
        refine rk_callI hX (cl_V (rest := []) (av := [.int b38, .int 2]) C (hc_X3 H) (ct_X3_isThrown H a0 b38 2) (lw_V q2665 q2667 qs46 q112 q2668) ⟨rfl, hd_X3_isThrown⟩ ⟨(Nat.le_of_ble_eq_true rfl), (Nat.le_of_ble_eq_true rfl)⟩ rfl hl.1 rfl (zw_le zw_nil (Nat.le_of_ble_eq_true rfl)) dX3_fits_39) (fun v39 => ?_)
        refine rk_ite (fun _ _ _ _ _ k1 k2 => lv_if_eq (tgt := 47) hx hb dX3_fits_42 (by decide) k1 k2) (fun c_42 => ?_) (fun c_42 => ?_)
        · refine rk_ofs (fun _ _ _ _ _ k => lv_iconst (v := 0) hx hb dX3_fits_47 rfl (lr_istore_n hx hb dX3_fits_48 rfl hl (Nat.le_of_ble_eq_true rfl) [0, 1, 2] rfl ⟨trivial, ⟨trivial, ⟨rfl, trivial⟩⟩⟩ k)) (fun ls hl => ?_)
          refine rk_joinx (β := Unit) (fun (b78 : Unit) ls => lv_has ls 4 [(0, va_rf a0)]) (fun (b78 : Unit) ls => F0 m 78 ls []) (fun b78 ls hl => ?_) (fun hJ78 => ?_)
          · refine rk_of (fun _ _ _ _ _ k => lr_aload_n hx hb dX3_fits_78 rfl (lv_at hl 0 rfl) (lv_iconst (v := 3) hx hb dX3_fits_79 rfl k)) ?_
            refine rk_put C H.2.2.1 (hc_X3 H) (k := 5) (Nat.le_of_ble_eq_true rfl) in_X3 (ty0 := tyX3) tyX3_ok nmX3 q2582 (fun _ h => h) (Or.inl rfl) rfl rfl dX3_fits_80 ?_
            refine rk_of (fun _ _ _ _ _ k => lv_iconst (v := 0) hx hb dX3_fits_83 rfl k) ?_
            exact rk_top (rf_iret C rfl dX3_fits_84)
          · exact rf_X3_fits_49 H C hX a0 a1 a2 zm_N 0 _ ls (lv_sub hl [1, 2, 3, 0] rfl) hJ78 (fun v g k9 => by
        refine rk_inr ?_
        exact rk_top (k9))
        · refine rk_of (fun _ _ _ _ _ k => lv_iconst (v := 0) hx hb dX3_fits_45 rfl k) ?_
          exact rk_top (rf_iret C rfl dX3_fits_46)
      · refine rk_ite (fun _ _ _ _ _ k1 k2 => lv_if_ne (tgt := 37) hx hb dX3_fits_30 (by decide) k2 k1) (fun c_30 => ?_) (fun c_30 => ?_)
        · refine rk_of (fun _ _ _ _ _ k => lv_iconst (v := 1) hx hb dX3_fits_33 rfl (lv_goto (tgt := 38) hx hb dX3_fits_34 (by decide) k)) ?_
          exact hJ38 1 ls (lv_sub hl [0, 1, 2] rfl)
        · refine rk_of (fun _ _ _ _ _ k => lv_iconst (v := 0) hx hb dX3_fits_37 rfl k) ?_
          exact hJ38 0 ls (lv_sub hl [0, 1, 2] rfl)
    · refine rk_of (fun _ _ _ _ _ k => lv_iconst (v := 0) hx hb dX3_fits_45 rfl k) ?_
      exact rk_top (rf_iret C rfl dX3_fits_46)
  · refine rk_ite (fun _ _ _ _ _ k1 k2 => lv_if_ne (tgt := 13) hx hb dX3_fits_6 (by decide) k2 k1) (fun c_6 => ?_) (fun c_6 => ?_)
    · refine rk_of (fun _ _ _ _ _ k => lv_iconst (v := 1) hx hb dX3_fits_9 rfl (lv_goto (tgt := 14) hx hb dX3_fits_10 (by decide) k)) ?_
      exact hJ14 1 ls (lv_sub hl [0, 1, 2] rfl)
    · refine rk_of (fun _ _ _ _ _ k => lv_iconst (v := 0) hx hb dX3_fits_13 rfl k) ?_
      exact hJ14 0 ls (lv_sub hl [0, 1, 2] rfl)
theorem hd_X3_gap : yX3_gap.cls ≠ "java/lang/invoke/MethodHandle" ∧ yX3_gap.cls ≠ "java/lang/invoke/VarHandle" ∧ (parseMethodDescriptor yX3_gap.desc).map (fun d => d.parameters.length) = some 3 := by decide +kernel
noncomputable def fn_X3_gap (K : zm_K) (a0 : zm_R) (a1 : Int32) (a2 : Int32) (a3 : Int32) : zm_M Int32 :=
  zm_bnd (zm_bnd (zm_is a0 20) fun _ => fn_X3_endOf K a0 a1 0 a2 a3) fun v5 =>
  zm_ret v5
theorem ct_X3_gap {l : Launch} {Ω : zm_W} {K : zm_K} (H : zm_H Ω K) (a0 : zm_R) (a1 : Int32) (a2 : Int32) (a3 : Int32) : zm_Ct l Ω yX3_gap (ws_ yX3_gap cX3_gap 4 (Option.some Jvm.ClassFile.FieldType.int)) 9 250 [va_rf a0, .int a1, .int a2, .int a3] zm_tvI (fn_X3_gap K a0 a1 a2 a3) := by
  refine zm_ct H.1 (by decide +kernel) (zl_le (zl_R (zl_I (zl_I (zl_I zl_nil)))) (Nat.le_of_ble_eq_true rfl)) ?_
  intro p e R s m args below meth c n0 k0 C hX ls hl
  have hx := C.1
  have hb := C.2.1
  simp only [zg_I, zg_R, zg_nil] at hl
  have hl : lv_has ls 4 [(0, va_rf a0), (1, .int a1), (2, .int a2), (3, .int a3)] := hl
  refine rk_rf ?_
  unfold fn_X3_gap
  refine rk_of (fun _ _ _ _ _ k => lr_aload_n hx hb dX3_gap_0 rfl (lv_at hl 0 rfl) (lv_iload_n hx hb dX3_gap_1 rfl (lv_at hl 1 rfl) (lv_iconst (v := 0) hx hb dX3_gap_2 rfl (lv_iload_n hx hb dX3_gap_3 rfl (lv_at hl 2 rfl) (lv_iload_n hx hb dX3_gap_4 rfl (lv_at hl 3 rfl) k))))) ?_
  refine rk_callI hX (cl_V (rest := []) (av := [.int a1, .int 0, .int a2, .int a3]) C (hc_X3 H) (ct_X3_endOf H a0 a1 0 a2 a3) (lw_V q2898 q2900 qs81 q112 q2901) ⟨rfl, hd_X3_endOf⟩ ⟨(Nat.le_of_ble_eq_true rfl), (Nat.le_of_ble_eq_true rfl)⟩ rfl hl.1 rfl (zw_le zw_nil (Nat.le_of_ble_eq_true rfl)) dX3_gap_5) (fun v5 => ?_)
  exact rk_top (rf_iret C rfl dX3_gap_8)
theorem hd_X3_isHour : yX3_isHour.cls ≠ "java/lang/invoke/MethodHandle" ∧ yX3_isHour.cls ≠ "java/lang/invoke/VarHandle" ∧ (parseMethodDescriptor yX3_isHour.desc).map (fun d => d.parameters.length) = some 1 := by decide +kernel
noncomputable def fn_X3_isHour (K : zm_K) (a0 : Int32) : zm_M Int32 :=
  zm_bnd (fn_X3_isIn K a0 0 9) fun v4 =>
  zm_bnd (zm_grd (v4 = 0 ∨ v4 = 1)) fun _ =>
  zm_ret v4
theorem ct_X3_isHour {l : Launch} {Ω : zm_W} {K : zm_K} (H : zm_H Ω K) (a0 : Int32) : zm_Ct l Ω yX3_isHour (ws_ yX3_isHour cX3_isHour 1 (Option.some Jvm.ClassFile.FieldType.boolean)) 2 86 [.int a0] zm_tvI (fn_X3_isHour K a0) := by
  refine zm_ct H.1 (by decide +kernel) (zl_le (zl_I zl_nil) (Nat.le_of_ble_eq_true rfl)) ?_
  intro p e R s m args below meth c n0 k0 C hX ls hl
  have hx := C.1
  have hb := C.2.1
  simp only [zg_I, zg_nil] at hl
  have hl : lv_has ls 1 [(0, .int a0)] := hl
  refine rk_rf ?_
  unfold fn_X3_isHour
  refine rk_of (fun _ _ _ _ _ k => lv_iload_n hx hb dX3_isHour_0 rfl (lv_at hl 0 rfl) (lv_iconst (v := 0) hx hb dX3_isHour_1 rfl (lv_bipush (v := 9) hx hb dX3_isHour_2 rfl k))) ?_
  refine rk_callI hX (cl_S (rest := []) C (ct_X3_isIn H a0 0 9) (lw_S q2662 q2663 q112 q2664) hd_X3_isIn ⟨(Nat.le_of_ble_eq_true rfl), (Nat.le_of_ble_eq_true rfl)⟩ rfl hl.1 rfl (zw_le zw_nil (Nat.le_of_ble_eq_true rfl)) dX3_isHour_4) (fun v4 => ?_)
  refine rk_grd (fun hg_7 => ?_)
  exact rk_top (rf_iret C (zn_Z hg_7) dX3_isHour_7)
theorem hd_X3_hour : yX3_hour.cls ≠ "java/lang/invoke/MethodHandle" ∧ yX3_hour.cls ≠ "java/lang/invoke/VarHandle" ∧ (parseMethodDescriptor yX3_hour.desc).map (fun d => d.parameters.length) = some 2 := by decide +kernel
noncomputable def fn_X3_hour (K : zm_K) (a0 : zm_R) (a1 : Int32) (a2 : Int32) : zm_M Int32 :=
  zm_bnd (zm_bnd (zm_is a0 20) fun _ => fn_X3_isBox K a0 a1) fun v3 =>
  zm_bnd (α := Int32) (
      if v3 = 0 then
        zm_ret 1
      else
        zm_ret 0
    ) fun b14 =>
  zm_bnd (zm_bnd (zm_is a0 20) fun _ => fn_X3_isThrown K a0 b14 1) fun v15 =>
  if v15 = 0 then
    zm_bnd (fn_X3_isHour K a2) fun v23 =>
    zm_bnd (α := Int32) (
        if v23 = 0 then
          zm_ret 1
        else
          zm_ret 0
      ) fun b34 =>
    zm_bnd (zm_bnd (zm_is a0 20) fun _ => fn_X3_isThrown K a0 b34 2) fun v35 =>
    if v35 = 0 then
      zm_bnd (zm_bnd (zm_is a0 20) fun _ => fn_X3_letIn K a0 a1 (60 * a2) ((60 * a2) + 60)) fun v56 =>
      zm_ret v56
    else
      zm_ret 0
  else
    zm_ret 0
theorem ct_X3_hour {l : Launch} {Ω : zm_W} {K : zm_K} (H : zm_H Ω K) (a0 : zm_R) (a1 : Int32) (a2 : Int32) : zm_Ct l Ω yX3_hour (ws_ yX3_hour cX3_hour 3 (Option.some Jvm.ClassFile.FieldType.int)) 5 153 [va_rf a0, .int a1, .int a2] zm_tvI (fn_X3_hour K a0 a1 a2) := by
  refine zm_ct H.1 (by decide +kernel) (zl_le (zl_R (zl_I (zl_I zl_nil))) (Nat.le_of_ble_eq_true rfl)) ?_
  intro p e R s m args below meth c n0 k0 C hX ls hl
  have hx := C.1
  have hb := C.2.1
  simp only [zg_I, zg_R, zg_nil] at hl
  have hl : lv_has ls 3 [(0, va_rf a0), (1, .int a1), (2, .int a2)] := hl
  refine rk_rf ?_
  unfold fn_X3_hour
  refine rk_of (fun _ _ _ _ _ k => lr_aload_n hx hb dX3_hour_0 rfl (lv_at hl 0 rfl) (lr_aload_n hx hb dX3_hour_1 rfl (lv_at hl 0 rfl) (lv_iload_n hx hb dX3_hour_2 rfl (lv_at hl 1 rfl) k))) ?_
  refine rk_callI hX (cl_V (rest := [va_rf a0]) (av := [.int a1]) C (hc_X3 H) (ct_X3_isBox H a0 a1) (lw_V q2685 q2687 qs50 q112 q2688) ⟨rfl, hd_X3_isBox⟩ ⟨(Nat.le_of_ble_eq_true rfl), (Nat.le_of_ble_eq_true rfl)⟩ rfl hl.1 rfl (zw_le (zw_R zw_nil) (Nat.le_of_ble_eq_true rfl)) dX3_hour_3) (fun v3 => ?_)
  refine rk_join (β := Int32) (fun (b14 : Int32) ls => lv_has ls 3 [(0, va_rf a0), (1, .int a1), (2, .int a2)]) (fun (b14 : Int32) ls => F0 m 14 ls [.int b14, va_rf a0]) (fun b14 ls hl => ?_) (fun hJ14 => ?_)
  · refine rk_of (fun _ _ _ _ _ k => lv_iconst (v := 1) hx hb dX3_hour_14 rfl k) ?_
    refine rk_callI hX (cl_V (rest := []) (av := [.int b14, .int 1]) C (hc_X3 H) (ct_X3_isThrown H a0 b14 1) (lw_V q2665 q2667 qs46 q112 q2668) ⟨rfl, hd_X3_isThrown⟩ ⟨(Nat.le_of_ble_eq_true rfl), (Nat.le_of_ble_eq_true rfl)⟩ rfl hl.1 rfl (zw_le zw_nil (Nat.le_of_ble_eq_true rfl)) dX3_hour_15) (fun v15 => ?_)
    refine rk_ite (fun _ _ _ _ _ k1 k2 => lv_if_ne (tgt := 41) hx hb dX3_hour_18 (by decide) k2 k1) (fun c_18 => ?_) (fun c_18 => ?_)
    · refine rk_of (fun _ _ _ _ _ k => lr_aload_n hx hb dX3_hour_21 rfl (lv_at hl 0 rfl) (lv_iload_n hx hb dX3_hour_22 rfl (lv_at hl 2 rfl) k)) ?_
      refine rk_callI hX (cl_S (rest := [va_rf a0]) C (ct_X3_isHour H a2) (lw_S q2918 q2919 q112 q2920) hd_X3_isHour ⟨(Nat.le_of_ble_eq_true rfl), (Nat.le_of_ble_eq_true rfl)⟩ rfl hl.1 rfl (zw_le (zw_R zw_nil) (Nat.le_of_ble_eq_true rfl)) dX3_hour_23) (fun v23 => ?_)
      refine rk_join (β := Int32) (fun (b34 : Int32) ls => lv_has ls 3 [(0, va_rf a0), (1, .int a1), (2, .int a2)]) (fun (b34 : Int32) ls => F0 m 34 ls [.int b34, va_rf a0]) (fun b34 ls hl => ?_) (fun hJ34 => ?_)
      · refine rk_of (fun _ _ _ _ _ k => lv_iconst (v := 2) hx hb dX3_hour_34 rfl k) ?_
        refine rk_callI hX (cl_V (rest := []) (av := [.int b34, .int 2]) C (hc_X3 H) (ct_X3_isThrown H a0 b34 2) (lw_V q2665 q2667 qs46 q112 q2668) ⟨rfl, hd_X3_isThrown⟩ ⟨(Nat.le_of_ble_eq_true rfl), (Nat.le_of_ble_eq_true rfl)⟩ rfl hl.1 rfl (zw_le zw_nil (Nat.le_of_ble_eq_true rfl)) dX3_hour_35) (fun v35 => ?_)
        refine rk_ite (fun _ _ _ _ _ k1 k2 => lv_if_eq (tgt := 43) hx hb dX3_hour_38 (by decide) k1 k2) (fun c_38 => ?_) (fun c_38 => ?_)
        · refine rk_of (fun _ _ _ _ _ k => lr_aload_n hx hb dX3_hour_43 rfl (lv_at hl 0 rfl) (lv_iload_n hx hb dX3_hour_44 rfl (lv_at hl 1 rfl) (lv_bipush (v := 60) hx hb dX3_hour_45 rfl (lv_iload_n hx hb dX3_hour_47 rfl (lv_at hl 2 rfl) (lv_imul hx hb dX3_hour_48 (lv_bipush (v := 60) hx hb dX3_hour_49 rfl (lv_iload_n hx hb dX3_hour_51 rfl (lv_at hl 2 rfl) (lv_imul hx hb dX3_hour_52 (lv_bipush (v := 60) hx hb dX3_hour_53 rfl (lv_iadd hx hb dX3_hour_55 k)))))))))) ?_
          refine rk_callI hX (cl_V (rest := []) (av := [.int a1, .int (60 * a2), .int ((60 * a2) + 60)]) C (hc_X3 H) (ct_X3_letIn H a0 a1 (60 * a2) ((60 * a2) + 60)) (lw_V q2874 q2876 qs76 q112 q2877) ⟨rfl, hd_X3_letIn⟩ ⟨(Nat.le_of_ble_eq_true rfl), (Nat.le_of_ble_eq_true rfl)⟩ rfl hl.1 rfl (zw_le zw_nil (Nat.le_of_ble_eq_true rfl)) dX3_hour_56) (fun v56 => ?_)
          exact rk_top (rf_iret C rfl dX3_hour_59)
        · refine rk_of (fun _ _ _ _ _ k => lv_iconst (v := 0) hx hb dX3_hour_41 rfl k) ?_
          exact rk_top (rf_iret C rfl dX3_hour_42)
      · refine rk_ite (fun _ _ _ _ _ k1 k2 => lv_if_ne (tgt := 33) hx hb dX3_hour_26 (by decide) k2 k1) (fun c_26 => ?_) (fun c_26 => ?_)
        · refine rk_of (fun _ _ _ _ _ k => lv_iconst (v := 1) hx hb dX3_hour_29 rfl (lv_goto (tgt := 34) hx hb dX3_hour_30 (by decide) k)) ?_
          exact hJ34 1 ls (lv_sub hl [0, 1, 2] rfl)
        · refine rk_of (fun _ _ _ _ _ k => lv_iconst (v := 0) hx hb dX3_hour_33 rfl k) ?_
          exact hJ34 0 ls (lv_sub hl [0, 1, 2] rfl)
    · refine rk_of (fun _ _ _ _ _ k => lv_iconst (v := 0) hx hb dX3_hour_41 rfl k) ?_
      exact rk_top (rf_iret C rfl dX3_hour_42)
  · refine rk_ite (fun _ _ _ _ _ k1 k2 => lv_if_ne (tgt := 13) hx hb dX3_hour_6 (by decide) k2 k1) (fun c_6 => ?_) (fun c_6 => ?_)
    · refine rk_of (fun _ _ _ _ _ k => lv_iconst (v := 1) hx hb dX3_hour_9 rfl (lv_goto (tgt := 14) hx hb dX3_hour_10 (by decide) k)) ?_
      exact hJ14 1 ls (lv_sub hl [0, 1, 2] rfl)
    · refine rk_of (fun _ _ _ _ _ k => lv_iconst (v := 0) hx hb dX3_hour_13 rfl k) ?_
      exact hJ14 0 ls (lv_sub hl [0, 1, 2] rfl)
theorem hd_X3_isBehind : yX3_isBehind.cls ≠ "java/lang/invoke/MethodHandle" ∧ yX3_isBehind.cls ≠ "java/lang/invoke/VarHandle" ∧ (parseMethodDescriptor yX3_isBehind.desc).map (fun d => d.parameters.length) = some 2 := by decide +kernel
noncomputable def fn_X3_isBehind (K : zm_K) (a0 : zm_R) (a1 : Int32) (a2 : Int32) : zm_M Unit :=
  zm_bnd (α := Int32) (
      if a1 = 0 then
        zm_ret 0
      else
        zm_bnd (zm_getI a0 20 6) fun v6 =>
        zm_ret v6
    ) fun b13 =>
  zm_bnd (zm_putF K a0 20 8 (.int b13)) fun _ =>
  zm_bnd (α := Int32) (
      if a1 = 0 then
        zm_ret 0
      else
        zm_bnd (zm_getI a0 20 7) fun v22 =>
        zm_ret v22
    ) fun b29 =>
  zm_bnd (zm_putF K a0 20 9 (.int b29)) fun _ =>
  zm_bnd (zm_putF K a0 20 6 (.int 10)) fun _ =>
  zm_bnd (zm_putF K a0 20 7 (.int a2)) fun _ =>
  zm_ret ()
theorem ct_X3_isBehind {l : Launch} {Ω : zm_W} {K : zm_K} (H : zm_H Ω K) (a0 : zm_R) (a1 : Int32) (a2 : Int32) : zm_Ct l Ω yX3_isBehind (ws_ yX3_isBehind cX3_isBehind 3 (Option.none : Option Jvm.ClassFile.FieldType)) 1 64 [va_rf a0, .int a1, .int a2] zm_tvV (fn_X3_isBehind K a0 a1 a2) := by
  refine zm_ct H.1 (by decide +kernel) (zl_le (zl_R (zl_I (zl_I zl_nil))) (Nat.le_of_ble_eq_true rfl)) ?_
  intro p e R s m args below meth c n0 k0 C hX ls hl
  have hx := C.1
  have hb := C.2.1
  simp only [zg_I, zg_R, zg_nil] at hl
  have hl : lv_has ls 3 [(0, va_rf a0), (1, .int a1), (2, .int a2)] := hl
  refine rk_rf ?_
  unfold fn_X3_isBehind
  refine rk_of (fun _ _ _ _ _ k => lr_aload_n hx hb dX3_isBehind_0 rfl (lv_at hl 0 rfl) (lv_iload_n hx hb dX3_isBehind_1 rfl (lv_at hl 1 rfl) k)) ?_
  refine rk_join (β := Int32) (fun (b13 : Int32) ls => lv_has ls 3 [(0, va_rf a0), (1, .int a1), (2, .int a2)]) (fun (b13 : Int32) ls => F0 m 13 ls [.int b13, va_rf a0]) (fun b13 ls hl => ?_) (fun hJ13 => ?_)
  · refine rk_put C H.2.2.1 (hc_X3 H) (k := 8) (Nat.le_of_ble_eq_true rfl) in_X3 (ty0 := tyX3) tyX3_ok nmX3 q2585 (fun _ h => h) (Or.inl rfl) rfl rfl dX3_isBehind_13 ?_
    refine rk_of (fun _ _ _ _ _ k => lr_aload_n hx hb dX3_isBehind_16 rfl (lv_at hl 0 rfl) (lv_iload_n hx hb dX3_isBehind_17 rfl (lv_at hl 1 rfl) k)) ?_
    refine rk_join (β := Int32) (fun (b29 : Int32) ls => lv_has ls 3 [(0, va_rf a0), (2, .int a2)]) (fun (b29 : Int32) ls => F0 m 29 ls [.int b29, va_rf a0]) (fun b29 ls hl => ?_) (fun hJ29 => ?_)
    · refine rk_put C H.2.2.1 (hc_X3 H) (k := 9) (Nat.le_of_ble_eq_true rfl) in_X3 (ty0 := tyX3) tyX3_ok nmX3 q2586 (fun _ h => h) (Or.inl rfl) rfl rfl dX3_isBehind_29 ?_
      refine rk_of (fun _ _ _ _ _ k => lr_aload_n hx hb dX3_isBehind_32 rfl (lv_at hl 0 rfl) (lv_bipush (v := 10) hx hb dX3_isBehind_33 rfl k)) ?_
      refine rk_put C H.2.2.1 (hc_X3 H) (k := 6) (Nat.le_of_ble_eq_true rfl) in_X3 (ty0 := tyX3) tyX3_ok nmX3 q2583 (fun _ h => h) (Or.inl rfl) rfl rfl dX3_isBehind_35 ?_
      refine rk_of (fun _ _ _ _ _ k => lr_aload_n hx hb dX3_isBehind_38 rfl (lv_at hl 0 rfl) (lv_iload_n hx hb dX3_isBehind_39 rfl (lv_at hl 1 rfl) k)) ?_
      refine rk_put C H.2.2.1 (hc_X3 H) (k := 7) (Nat.le_of_ble_eq_true rfl) in_X3 (ty0 := tyX3) tyX3_ok nmX3 q2584 (fun _ h => h) (Or.inl rfl) rfl rfl dX3_isBehind_40 ?_
      exact rk_top (rf_vret C dX3_isBehind_43)
    · refine rk_ite (fun _ _ _ _ _ k1 k2 => lv_if_eq (tgt := 28) hx hb dX3_isBehind_18 (by decide) k1 k2) (fun c_18 => ?_) (fun c_18 => ?_)
      · refine rk_of (fun _ _ _ _ _ k => lv_iconst (v := 0) hx hb dX3_isBehind_28 rfl k) ?_
        exact hJ29 0 ls (lv_sub hl [0, 2] rfl)
      · refine rk_of (fun _ _ _ _ _ k => lr_aload_n hx hb dX3_isBehind_21 rfl (lv_at hl 0 rfl) k) ?_
        refine rk_get zm_rdI_eq C (hc_X3 H) (k := 7) (Nat.le_of_ble_eq_true rfl) in_X3 q2584 (fun _ h => h) dX3_isBehind_22 (fun v22 => ?_)
        refine rk_of (fun _ _ _ _ _ k => lv_goto (tgt := 29) hx hb dX3_isBehind_25 (by decide) k) ?_
        exact hJ29 v22 ls (lv_sub hl [0, 2] rfl)
  · refine rk_ite (fun _ _ _ _ _ k1 k2 => lv_if_eq (tgt := 12) hx hb dX3_isBehind_2 (by decide) k1 k2) (fun c_2 => ?_) (fun c_2 => ?_)
    · refine rk_of (fun _ _ _ _ _ k => lv_iconst (v := 0) hx hb dX3_isBehind_12 rfl k) ?_
      exact hJ13 0 ls (lv_sub hl [0, 1, 2] rfl)
    · refine rk_of (fun _ _ _ _ _ k => lr_aload_n hx hb dX3_isBehind_5 rfl (lv_at hl 0 rfl) k) ?_
      refine rk_get zm_rdI_eq C (hc_X3 H) (k := 6) (Nat.le_of_ble_eq_true rfl) in_X3 q2583 (fun _ h => h) dX3_isBehind_6 (fun v6 => ?_)
      refine rk_of (fun _ _ _ _ _ k => lv_goto (tgt := 13) hx hb dX3_isBehind_9 (by decide) k) ?_
      exact hJ13 v6 ls (lv_sub hl [0, 1, 2] rfl)
theorem hd_X3_isBoxAhead : yX3_isBoxAhead.cls ≠ "java/lang/invoke/MethodHandle" ∧ yX3_isBoxAhead.cls ≠ "java/lang/invoke/VarHandle" ∧ (parseMethodDescriptor yX3_isBoxAhead.desc).map (fun d => d.parameters.length) = some 2 := by decide +kernel
noncomputable def fn_X3_isBoxAhead (K : zm_K) (a0 : zm_R) (a1 : Int32) (a2 : Int32) : zm_M Int32 :=
  zm_bnd (zm_bnd (zm_is a0 20) fun _ => fn_X3_minutesLet K a0 a1) fun v2 =>
  zm_bnd (zm_bnd (zm_is a0 20) fun _ => fn_X3_minutesLet K a0 a2) fun v7 =>
  if (v2 - v7) = 0 then
    zm_bnd (zm_getR a0 20 0) fun v27 =>
    zm_bnd (zm_aldI .int v27 (6 + a1)) fun v34 =>
    zm_bnd (zm_getR a0 20 0) fun v36 =>
    zm_bnd (zm_aldI .int v36 (6 + a2)) fun v43 =>
    if (v34 - v43) = 0 then
      if a2 ≤ a1 then
        zm_ret 0
      else
        zm_ret 1
    else
      if 0 ≤ (v34 - v43) then
        zm_ret 0
      else
        zm_ret 1
  else
    if (v2 - v7) ≤ 0 then
      zm_ret 0
    else
      zm_ret 1
theorem ct_X3_isBoxAhead {l : Launch} {Ω : zm_W} {K : zm_K} (H : zm_H Ω K) (a0 : zm_R) (a1 : Int32) (a2 : Int32) : zm_Ct l Ω yX3_isBoxAhead (ws_ yX3_isBoxAhead cX3_isBoxAhead 5 (Option.some Jvm.ClassFile.FieldType.boolean)) 6 174 [va_rf a0, .int a1, .int a2] zm_tvI (fn_X3_isBoxAhead K a0 a1 a2) := by
  refine zm_ct H.1 (by decide +kernel) (zl_le (zl_R (zl_I (zl_I zl_nil))) (Nat.le_of_ble_eq_true rfl)) ?_
  intro p e R s m args below meth c n0 k0 C hX ls hl
  have hx := C.1
  have hb := C.2.1
  simp only [zg_I, zg_R, zg_nil] at hl
  have hl : lv_has ls 5 [(0, va_rf a0), (1, .int a1), (2, .int a2)] := hl
  refine rk_rf ?_
  unfold fn_X3_isBoxAhead
  refine rk_of (fun _ _ _ _ _ k => lr_aload_n hx hb dX3_isBoxAhead_0 rfl (lv_at hl 0 rfl) (lv_iload_n hx hb dX3_isBoxAhead_1 rfl (lv_at hl 1 rfl) k)) ?_
  refine rk_callI hX (cl_V (rest := []) (av := [.int a1]) C (hc_X3 H) (ct_X3_minutesLet H a0 a1) (lw_V q2870 q2872 qs75 q112 q2873) ⟨rfl, hd_X3_minutesLet⟩ ⟨(Nat.le_of_ble_eq_true rfl), (Nat.le_of_ble_eq_true rfl)⟩ rfl hl.1 rfl (zw_le zw_nil (Nat.le_of_ble_eq_true rfl)) dX3_isBoxAhead_2) (fun v2 => ?_)
  refine rk_of (fun _ _ _ _ _ k => lr_aload_n hx hb dX3_isBoxAhead_5 rfl (lv_at hl 0 rfl) (lv_iload_n hx hb dX3_isBoxAhead_6 rfl (lv_at hl 2 rfl) k)) ?_
  refine rk_callI hX (cl_V (rest := [.int v2]) (av := [.int a2]) C (hc_X3 H) (ct_X3_minutesLet H a0 a2) (lw_V q2870 q2872 qs75 q112 q2873) ⟨rfl, hd_X3_minutesLet⟩ ⟨(Nat.le_of_ble_eq_true rfl), (Nat.le_of_ble_eq_true rfl)⟩ rfl hl.1 rfl (zw_le (zw_I zw_nil) (Nat.le_of_ble_eq_true rfl)) dX3_isBoxAhead_7) (fun v7 => ?_)
  refine rk_ofs (fun _ _ _ _ _ k => lv_isub hx hb dX3_isBoxAhead_10 (lr_istore_n hx hb dX3_isBoxAhead_11 rfl hl (Nat.le_of_ble_eq_true rfl) [0, 1, 2] rfl ⟨trivial, ⟨trivial, ⟨rfl, trivial⟩⟩⟩ k)) (fun ls hl => ?_)
  refine rk_ite (fun _ _ _ _ _ k1 k2 => lv_iload_n hx hb dX3_isBoxAhead_12 rfl (lv_at hl 0 rfl) (lv_if_eq (tgt := 26) hx hb dX3_isBoxAhead_13 (by decide) k1 k2)) (fun c_13 => ?_) (fun c_13 => ?_)
  · refine rk_of (fun _ _ _ _ _ k => lr_aload_n hx hb dX3_isBoxAhead_26 rfl (lv_at hl 1 rfl) k) ?_
    refine rk_get zm_rdR_eq C (hc_X3 H) (k := 0) (Nat.le_of_ble_eq_true rfl) in_X3 q2577 (fun _ h => h) dX3_isBoxAhead_27 (fun v27 => ?_)
    refine rk_of (fun _ _ _ _ _ k => lv_bipush (v := 6) hx hb dX3_isBoxAhead_30 rfl (lv_iload_n hx hb dX3_isBoxAhead_32 rfl (lv_at hl 2 rfl) (lv_iadd hx hb dX3_isBoxAhead_33 k))) ?_
    refine rk_iald C dX3_isBoxAhead_34 (fun v34 => ?_)
    refine rk_of (fun _ _ _ _ _ k => lr_aload_n hx hb dX3_isBoxAhead_35 rfl (lv_at hl 1 rfl) k) ?_
    refine rk_get zm_rdR_eq C (hc_X3 H) (k := 0) (Nat.le_of_ble_eq_true rfl) in_X3 q2577 (fun _ h => h) dX3_isBoxAhead_36 (fun v36 => ?_)
    refine rk_of (fun _ _ _ _ _ k => lv_bipush (v := 6) hx hb dX3_isBoxAhead_39 rfl (lv_iload_n hx hb dX3_isBoxAhead_41 rfl (lv_at hl 3 rfl) (lv_iadd hx hb dX3_isBoxAhead_42 k))) ?_
    refine rk_iald C dX3_isBoxAhead_43 (fun v43 => ?_)
    refine rk_ofs (fun _ _ _ _ _ k => lv_isub hx hb dX3_isBoxAhead_44 (lr_istore hx hb dX3_isBoxAhead_45 hl (Nat.le_of_ble_eq_true rfl) [2, 3] rfl ⟨trivial, ⟨trivial, trivial⟩⟩ k)) (fun ls hl => ?_)
    refine rk_ite (fun _ _ _ _ _ k1 k2 => lv_iload hx hb dX3_isBoxAhead_47 (lv_at hl 0 rfl) (lv_if_eq (tgt := 65) hx hb dX3_isBoxAhead_49 (by decide) k1 k2)) (fun c_49 => ?_) (fun c_49 => ?_)
    · refine rk_ite (fun _ _ _ _ _ k1 k2 => lv_iload_n hx hb dX3_isBoxAhead_65 rfl (lv_at hl 1 rfl) (lv_iload_n hx hb dX3_isBoxAhead_66 rfl (lv_at hl 2 rfl) (lv_icmp_ge (tgt := 74) hx hb dX3_isBoxAhead_67 (by decide) k1 k2))) (fun c_67 => ?_) (fun c_67 => ?_)
      · refine rk_of (fun _ _ _ _ _ k => lv_iconst (v := 0) hx hb dX3_isBoxAhead_74 rfl k) ?_
        exact rk_top (rf_iret C rfl dX3_isBoxAhead_75)
      · refine rk_of (fun _ _ _ _ _ k => lv_iconst (v := 1) hx hb dX3_isBoxAhead_70 rfl (lv_goto (tgt := 75) hx hb dX3_isBoxAhead_71 (by decide) k)) ?_
        exact rk_top (rf_iret C rfl dX3_isBoxAhead_75)
    · refine rk_ite (fun _ _ _ _ _ k1 k2 => lv_iload hx hb dX3_isBoxAhead_52 (lv_at hl 0 rfl) (lv_if_ge (tgt := 61) hx hb dX3_isBoxAhead_54 (by decide) k1 k2)) (fun c_54 => ?_) (fun c_54 => ?_)
      · refine rk_of (fun _ _ _ _ _ k => lv_iconst (v := 0) hx hb dX3_isBoxAhead_61 rfl (lv_goto (tgt := 75) hx hb dX3_isBoxAhead_62 (by decide) k)) ?_
        exact rk_top (rf_iret C rfl dX3_isBoxAhead_75)
      · refine rk_of (fun _ _ _ _ _ k => lv_iconst (v := 1) hx hb dX3_isBoxAhead_57 rfl (lv_goto (tgt := 75) hx hb dX3_isBoxAhead_58 (by decide) k)) ?_
        exact rk_top (rf_iret C rfl dX3_isBoxAhead_75)
  · refine rk_ite (fun _ _ _ _ _ k1 k2 => lv_iload_n hx hb dX3_isBoxAhead_16 rfl (lv_at hl 0 rfl) (lv_if_le (tgt := 24) hx hb dX3_isBoxAhead_17 (by decide) k1 k2)) (fun c_17 => ?_) (fun c_17 => ?_)
    · refine rk_of (fun _ _ _ _ _ k => lv_iconst (v := 0) hx hb dX3_isBoxAhead_24 rfl k) ?_
      exact rk_top (rf_iret C rfl dX3_isBoxAhead_25)
    · refine rk_of (fun _ _ _ _ _ k => lv_iconst (v := 1) hx hb dX3_isBoxAhead_20 rfl (lv_goto (tgt := 25) hx hb dX3_isBoxAhead_21 (by decide) k)) ?_
      exact rk_top (rf_iret C rfl dX3_isBoxAhead_25)
theorem hd_X3_isBy : yX3_isBy.cls ≠ "java/lang/invoke/MethodHandle" ∧ yX3_isBy.cls ≠ "java/lang/invoke/VarHandle" ∧ (parseMethodDescriptor yX3_isBy.desc).map (fun d => d.parameters.length) = some 1 := by decide +kernel
noncomputable def fn_X3_isBy (K : zm_K) (a0 : Int32) : zm_M Int32 :=
  zm_bnd (fn_X3_isIn K a0 (-599) 599) fun v7 =>
  zm_bnd (zm_grd (v7 = 0 ∨ v7 = 1)) fun _ =>
  zm_ret v7
theorem ct_X3_isBy {l : Launch} {Ω : zm_W} {K : zm_K} (H : zm_H Ω K) (a0 : Int32) : zm_Ct l Ω yX3_isBy (ws_ yX3_isBy cX3_isBy 1 (Option.some Jvm.ClassFile.FieldType.boolean)) 2 86 [.int a0] zm_tvI (fn_X3_isBy K a0) := by
  refine zm_ct H.1 (by decide +kernel) (zl_le (zl_I zl_nil) (Nat.le_of_ble_eq_true rfl)) ?_
  intro p e R s m args below meth c n0 k0 C hX ls hl
  have hx := C.1
  have hb := C.2.1
  simp only [zg_I, zg_nil] at hl
  have hl : lv_has ls 1 [(0, .int a0)] := hl
  refine rk_rf ?_
  unfold fn_X3_isBy
  refine rk_of (fun _ _ _ _ _ k => lv_iload_n hx hb dX3_isBy_0 rfl (lv_at hl 0 rfl) (lv_sipush (v := (-599)) hx hb dX3_isBy_1 rfl (lv_sipush (v := 599) hx hb dX3_isBy_4 rfl k))) ?_
  refine rk_callI hX (cl_S (rest := []) C (ct_X3_isIn H a0 (-599) 599) (lw_S q2662 q2663 q112 q2664) hd_X3_isIn ⟨(Nat.le_of_ble_eq_true rfl), (Nat.le_of_ble_eq_true rfl)⟩ rfl hl.1 rfl (zw_le zw_nil (Nat.le_of_ble_eq_true rfl)) dX3_isBy_7) (fun v7 => ?_)
  refine rk_grd (fun hg_10 => ?_)
  exact rk_top (rf_iret C (zn_Z hg_10) dX3_isBy_10)
theorem hd_X3_isFor : yX3_isFor.cls ≠ "java/lang/invoke/MethodHandle" ∧ yX3_isFor.cls ≠ "java/lang/invoke/VarHandle" ∧ (parseMethodDescriptor yX3_isFor.desc).map (fun d => d.parameters.length) = some 3 := by decide +kernel
noncomputable def fn_X3_isFor (K : zm_K) (a0 : Int32) (a1 : Int32) (a2 : Int32) : zm_M Int32 :=
  zm_bnd (fn_X3_isIn K a0 1 8) fun v4 =>
  if v4 = 0 then
    zm_ret 0
  else
    zm_bnd (fn_X3_isMinute K a1) fun v11 =>
    if v11 = 0 then
      zm_ret 0
    else
      zm_bnd (fn_X3_isIn K a2 (a1 + 1) 600) fun v24 =>
      if v24 = 0 then
        zm_ret 0
      else
        zm_ret 1
theorem ct_X3_isFor {l : Launch} {Ω : zm_W} {K : zm_K} (H : zm_H Ω K) (a0 : Int32) (a1 : Int32) (a2 : Int32) : zm_Ct l Ω yX3_isFor (ws_ yX3_isFor cX3_isFor 3 (Option.some Jvm.ClassFile.FieldType.boolean)) 3 106 [.int a0, .int a1, .int a2] zm_tvI (fn_X3_isFor K a0 a1 a2) := by
  refine zm_ct H.1 (by decide +kernel) (zl_le (zl_I (zl_I (zl_I zl_nil))) (Nat.le_of_ble_eq_true rfl)) ?_
  intro p e R s m args below meth c n0 k0 C hX ls hl
  have hx := C.1
  have hb := C.2.1
  simp only [zg_I, zg_nil] at hl
  have hl : lv_has ls 3 [(0, .int a0), (1, .int a1), (2, .int a2)] := hl
  refine rk_rf ?_
  unfold fn_X3_isFor
  refine rk_of (fun _ _ _ _ _ k => lv_iload_n hx hb dX3_isFor_0 rfl (lv_at hl 0 rfl) (lv_iconst (v := 1) hx hb dX3_isFor_1 rfl (lv_bipush (v := 8) hx hb dX3_isFor_2 rfl k))) ?_
  refine rk_callI hX (cl_S (rest := []) C (ct_X3_isIn H a0 1 8) (lw_S q2662 q2663 q112 q2664) hd_X3_isIn ⟨(Nat.le_of_ble_eq_true rfl), (Nat.le_of_ble_eq_true rfl)⟩ rfl hl.1 rfl (zw_le zw_nil (Nat.le_of_ble_eq_true rfl)) dX3_isFor_4) (fun v4 => ?_)
  refine rk_ite (fun _ _ _ _ _ k1 k2 => lv_if_eq (tgt := 34) hx hb dX3_isFor_7 (by decide) k1 k2) (fun c_7 => ?_) (fun c_7 => ?_)
  · refine rk_of (fun _ _ _ _ _ k => lv_iconst (v := 0) hx hb dX3_isFor_34 rfl k) ?_
    exact rk_top (rf_iret C rfl dX3_isFor_35)
  · refine rk_of (fun _ _ _ _ _ k => lv_iload_n hx hb dX3_isFor_10 rfl (lv_at hl 1 rfl) k) ?_
    refine rk_callI hX (cl_S (rest := []) C (ct_X3_isMinute H a1) (lw_S q2692 q2693 q112 q2694) hd_X3_isMinute ⟨(Nat.le_of_ble_eq_true rfl), (Nat.le_of_ble_eq_true rfl)⟩ rfl hl.1 rfl (zw_le zw_nil (Nat.le_of_ble_eq_true rfl)) dX3_isFor_11) (fun v11 => ?_)
    refine rk_ite (fun _ _ _ _ _ k1 k2 => lv_if_eq (tgt := 34) hx hb dX3_isFor_14 (by decide) k1 k2) (fun c_14 => ?_) (fun c_14 => ?_)
    · refine rk_of (fun _ _ _ _ _ k => lv_iconst (v := 0) hx hb dX3_isFor_34 rfl k) ?_
      exact rk_top (rf_iret C rfl dX3_isFor_35)
    · refine rk_of (fun _ _ _ _ _ k => lv_iload_n hx hb dX3_isFor_17 rfl (lv_at hl 2 rfl) (lv_iload_n hx hb dX3_isFor_18 rfl (lv_at hl 1 rfl) (lv_iconst (v := 1) hx hb dX3_isFor_19 rfl (lv_iadd hx hb dX3_isFor_20 (lv_sipush (v := 600) hx hb dX3_isFor_21 rfl k))))) ?_
      refine rk_callI hX (cl_S (rest := []) C (ct_X3_isIn H a2 (a1 + 1) 600) (lw_S q2662 q2663 q112 q2664) hd_X3_isIn ⟨(Nat.le_of_ble_eq_true rfl), (Nat.le_of_ble_eq_true rfl)⟩ rfl hl.1 rfl (zw_le zw_nil (Nat.le_of_ble_eq_true rfl)) dX3_isFor_24) (fun v24 => ?_)
      refine rk_ite (fun _ _ _ _ _ k1 k2 => lv_if_eq (tgt := 34) hx hb dX3_isFor_27 (by decide) k1 k2) (fun c_27 => ?_) (fun c_27 => ?_)
      · refine rk_of (fun _ _ _ _ _ k => lv_iconst (v := 0) hx hb dX3_isFor_34 rfl k) ?_
        exact rk_top (rf_iret C rfl dX3_isFor_35)
      · refine rk_of (fun _ _ _ _ _ k => lv_iconst (v := 1) hx hb dX3_isFor_30 rfl (lv_goto (tgt := 35) hx hb dX3_isFor_31 (by decide) k)) ?_
        exact rk_top (rf_iret C rfl dX3_isFor_35)
theorem hd_X3_sign : yX3_sign.cls ≠ "java/lang/invoke/MethodHandle" ∧ yX3_sign.cls ≠ "java/lang/invoke/VarHandle" ∧ (parseMethodDescriptor yX3_sign.desc).map (fun d => d.parameters.length) = some 0 := by decide +kernel
noncomputable def fn_X3_sign (K : zm_K) (a0 : zm_R) : zm_M Int32 :=
  zm_bnd (zm_getI a0 20 20) fun v1 =>
  zm_bnd (zm_getI a0 20 19) fun v5 =>
  if v5 ≤ v1 then
    zm_ret (-1)
  else
    zm_bnd (zm_getR a0 20 17) fun v12 =>
    zm_bnd (zm_getI a0 20 20) fun v16 =>
    zm_bnd (zm_aldI .int v12 v16) fun v19 =>
    zm_ret v19
theorem ct_X3_sign {l : Launch} {Ω : zm_W} {K : zm_K} (H : zm_H Ω K) (a0 : zm_R) : zm_Ct l Ω yX3_sign (ws_ yX3_sign cX3_sign 1 (Option.some Jvm.ClassFile.FieldType.int)) 1 64 [va_rf a0] zm_tvI (fn_X3_sign K a0) := by
  refine zm_ct H.1 (by decide +kernel) (zl_le (zl_R zl_nil) (Nat.le_of_ble_eq_true rfl)) ?_
  intro p e R s m args below meth c n0 k0 C hX ls hl
  have hx := C.1
  have hb := C.2.1
  simp only [zg_R, zg_nil] at hl
  have hl : lv_has ls 1 [(0, va_rf a0)] := hl
  refine rk_rf ?_
  unfold fn_X3_sign
  refine rk_of (fun _ _ _ _ _ k => lr_aload_n hx hb dX3_sign_0 rfl (lv_at hl 0 rfl) k) ?_
  refine rk_get zm_rdI_eq C (hc_X3 H) (k := 20) (Nat.le_of_ble_eq_true rfl) in_X3 q2597 (fun _ h => h) dX3_sign_1 (fun v1 => ?_)
  refine rk_of (fun _ _ _ _ _ k => lr_aload_n hx hb dX3_sign_4 rfl (lv_at hl 0 rfl) k) ?_
  refine rk_get zm_rdI_eq C (hc_X3 H) (k := 19) (Nat.le_of_ble_eq_true rfl) in_X3 q2596 (fun _ h => h) dX3_sign_5 (fun v5 => ?_)
  refine rk_ite (fun _ _ _ _ _ k1 k2 => lv_icmp_ge (tgt := 23) hx hb dX3_sign_8 (by decide) k1 k2) (fun c_8 => ?_) (fun c_8 => ?_)
  · refine rk_of (fun _ _ _ _ _ k => lv_iconst (v := (-1)) hx hb dX3_sign_23 rfl k) ?_
    exact rk_top (rf_iret C rfl dX3_sign_24)
  · refine rk_of (fun _ _ _ _ _ k => lr_aload_n hx hb dX3_sign_11 rfl (lv_at hl 0 rfl) k) ?_
    refine rk_get zm_rdR_eq C (hc_X3 H) (k := 17) (Nat.le_of_ble_eq_true rfl) in_X3 q2594 (fun _ h => h) dX3_sign_12 (fun v12 => ?_)
    refine rk_of (fun _ _ _ _ _ k => lr_aload_n hx hb dX3_sign_15 rfl (lv_at hl 0 rfl) k) ?_
    refine rk_get zm_rdI_eq C (hc_X3 H) (k := 20) (Nat.le_of_ble_eq_true rfl) in_X3 q2597 (fun _ h => h) dX3_sign_16 (fun v16 => ?_)
    refine rk_iald C dX3_sign_19 (fun v19 => ?_)
    refine rk_of (fun _ _ _ _ _ k => lv_goto (tgt := 24) hx hb dX3_sign_20 (by decide) k) ?_
    exact rk_top (rf_iret C rfl dX3_sign_24)
theorem hd_X3_isNumber : yX3_isNumber.cls ≠ "java/lang/invoke/MethodHandle" ∧ yX3_isNumber.cls ≠ "java/lang/invoke/VarHandle" ∧ (parseMethodDescriptor yX3_isNumber.desc).map (fun d => d.parameters.length) = some 2 := by decide +kernel
noncomputable def fn_X3_isNumber_5 (K : zm_K) (p0 : zm_R) (p1 : Int32) (p2 : Int32) : Nat → Int32 → Int32 → zm_M (Int32 × Int32)
  | 0, _, _ => zm_fl
  | n + 1, x3, x4 =>
    if p1 ≤ x4 then
      zm_ret (x3, x4)
    else
      zm_bnd (zm_bnd (zm_is p0 20) fun _ => fn_X3_sign K p0) fun v12 =>
      zm_bnd (fn_X3_isIn K v12 48 57) fun v19 =>
      if v19 = 0 then
        zm_ret (x3, x4)
      else
        zm_bnd (zm_bnd (zm_is p0 20) fun _ => fn_X3_sign K p0) fun v30 =>
        zm_bnd (zm_getI p0 20 20) fun v40 =>
        zm_bnd (zm_putF K p0 20 20 (.int (v40 + 1))) fun _ =>
        fn_X3_isNumber_5 K p0 p1 p2 n (((10 * x3) + v30) - 48) (x4 + 1)
noncomputable def fn_X3_isNumber (K : zm_K) (a0 : zm_R) (a1 : Int32) (a2 : Int32) : zm_M Int32 :=
  zm_bnd (α := Int32 × Int32) (fn_X3_isNumber_5 K a0 a1 a2 zm_N 0 0) fun b54 =>
  zm_bnd (zm_getR a0 20 18) fun v55 =>
  zm_bnd (zm_astI K .int v55 a2 b54.1) fun _ =>
  if b54.2 ≤ 0 then
    zm_ret 0
  else
    zm_ret 1
theorem rf_X3_isNumber_5 (H : zm_H Ω K) (C : zm_C p l R s m args meth c Ω lw_all cX3_isNumber yX3_isNumber.cls yX3_isNumber.name 5 2 86 (Option.some Jvm.ClassFile.FieldType.boolean)) (hX : zm_XO p l e R s m args below meth c Ω n0 k0 (zm_QFs below args s Ω n0 k0 zm_tvI)) (p0 : zm_R) (p1 : Int32) (p2 : Int32) : ∀ (n : Nat) (x3 : Int32) (x4 : Int32) (J : (Int32 × Int32) → zm_M Int32) (ls : Array Slot), lv_has ls 5 [(0, va_rf p0), (1, .int p1), (2, .int p2), (3, .int x3), (4, .int x4)] → (∀ (b : Int32 × Int32) (ls : Array Slot), lv_has ls 5 [(0, va_rf p0), (2, .int p2), (3, .int b.1), (4, .int b.2)] → zm_RK p l e R s m args below meth c Ω n0 k0 (zm_QFs below args s Ω n0 k0 zm_tvI) (zm_ret b) J (F0 m 54 ls [])) → zm_RK p l e R s m args below meth c Ω n0 k0 (zm_QFs below args s Ω n0 k0 zm_tvI) (fn_X3_isNumber_5 K p0 p1 p2 n x3 x4) J (F0 m 5 ls []) := by
  have hx := C.1
  have hb := C.2.1
  intro n
  induction n with
  | zero => intro x3 x4 J ls hl hJ; exact rk_fl
  | succ n ih =>
    intro x3 x4 J ls hl hJ
    unfold fn_X3_isNumber_5
    refine rk_ite (fun _ _ _ _ _ k1 k2 => lv_iload hx hb dX3_isNumber_5 (lv_at hl 4 rfl) (lv_iload_n hx hb dX3_isNumber_7 rfl (lv_at hl 1 rfl) (lv_icmp_ge (tgt := 54) hx hb dX3_isNumber_8 (by decide) k1 k2))) (fun c_8 => ?_) (fun c_8 => ?_)
    · exact hJ (x3, x4) ls (lv_sub hl [0, 2, 3, 4] rfl)
    · refine rk_of (fun _ _ _ _ _ k => lr_aload_n hx hb dX3_isNumber_11 rfl (lv_at hl 0 rfl) k) ?_
      refine rk_callI hX (cl_V (rest := []) (av := []) C (hc_X3 H) (ct_X3_sign H p0) (lw_V q3012 q3014 qs92 q112 q3015) ⟨rfl, hd_X3_sign⟩ ⟨(Nat.le_of_ble_eq_true rfl), (Nat.le_of_ble_eq_true rfl)⟩ rfl hl.1 rfl (zw_le zw_nil (Nat.le_of_ble_eq_true rfl)) dX3_isNumber_12) (fun v12 => ?_)
      refine rk_of (fun _ _ _ _ _ k => lv_bipush (v := 48) hx hb dX3_isNumber_15 rfl (lv_bipush (v := 57) hx hb dX3_isNumber_17 rfl k)) ?_
      refine rk_callI hX (cl_S (rest := []) C (ct_X3_isIn H v12 48 57) (lw_S q2662 q2663 q112 q2664) hd_X3_isIn ⟨(Nat.le_of_ble_eq_true rfl), (Nat.le_of_ble_eq_true rfl)⟩ rfl hl.1 rfl (zw_le zw_nil (Nat.le_of_ble_eq_true rfl)) dX3_isNumber_19) (fun v19 => ?_)
      refine rk_ite (fun _ _ _ _ _ k1 k2 => lv_if_eq (tgt := 54) hx hb dX3_isNumber_22 (by decide) k1 k2) (fun c_22 => ?_) (fun c_22 => ?_)
      · exact hJ (x3, x4) ls (lv_sub hl [0, 2, 3, 4] rfl)
      · refine rk_of (fun _ _ _ _ _ k => lv_bipush (v := 10) hx hb dX3_isNumber_25 rfl (lv_iload_n hx hb dX3_isNumber_27 rfl (lv_at hl 3 rfl) (lv_imul hx hb dX3_isNumber_28 (lr_aload_n hx hb dX3_isNumber_29 rfl (lv_at hl 0 rfl) k)))) ?_
        refine rk_callI hX (cl_V (rest := [.int (10 * x3)]) (av := []) C (hc_X3 H) (ct_X3_sign H p0) (lw_V q3012 q3014 qs92 q112 q3015) ⟨rfl, hd_X3_sign⟩ ⟨(Nat.le_of_ble_eq_true rfl), (Nat.le_of_ble_eq_true rfl)⟩ rfl hl.1 rfl (zw_le (zw_I zw_nil) (Nat.le_of_ble_eq_true rfl)) dX3_isNumber_30) (fun v30 => ?_)
        refine rk_ofs (fun _ _ _ _ _ k => lv_iadd hx hb dX3_isNumber_33 (lv_bipush (v := 48) hx hb dX3_isNumber_34 rfl (lv_isub hx hb dX3_isNumber_36 (lr_istore_n hx hb dX3_isNumber_37 rfl hl (Nat.le_of_ble_eq_true rfl) [0, 1, 2, 4] rfl ⟨trivial, ⟨trivial, ⟨rfl, ⟨trivial, trivial⟩⟩⟩⟩ k)))) (fun ls hl => ?_)
        refine rk_of (fun _ _ _ _ _ k => lr_aload_n hx hb dX3_isNumber_38 rfl (lv_at hl 1 rfl) (lv_dup hx hb dX3_isNumber_39 (va_rf_cat _) k)) ?_
        refine rk_get zm_rdI_eq C (hc_X3 H) (k := 20) (Nat.le_of_ble_eq_true rfl) in_X3 q2597 (fun _ h => h) dX3_isNumber_40 (fun v40 => ?_)
        refine rk_of (fun _ _ _ _ _ k => lv_iconst (v := 1) hx hb dX3_isNumber_43 rfl (lv_iadd hx hb dX3_isNumber_44 k)) ?_
        refine rk_put C H.2.2.1 (hc_X3 H) (k := 20) (Nat.le_of_ble_eq_true rfl) in_X3 (ty0 := tyX3) tyX3_ok nmX3 q2597 (fun _ h => h) (Or.inl rfl) rfl rfl dX3_isNumber_45 ?_
        refine rk_ofs (fun _ _ _ _ _ k => lr_iinc (v := x4 + 1) hx hb dX3_isNumber_48 hl (k := 4) rfl rfl (Nat.le_of_ble_eq_true rfl) [0, 1, 2, 3] rfl ⟨rfl, ⟨trivial, ⟨trivial, ⟨trivial, trivial⟩⟩⟩⟩ k) (fun ls hl => ?_)
        refine rk_of (fun _ _ _ _ _ k => lv_goto (tgt := 5) hx hb dX3_isNumber_51 (by decide) k) ?_
        exact ih (((10 * x3) + v30) - 48) (x4 + 1) J ls (lv_sub hl [2, 3, 4, 1, 0] rfl) hJ
theorem ct_X3_isNumber {l : Launch} {Ω : zm_W} {K : zm_K} (H : zm_H Ω K) (a0 : zm_R) (a1 : Int32) (a2 : Int32) : zm_Ct l Ω yX3_isNumber (ws_ yX3_isNumber cX3_isNumber 5 (Option.some Jvm.ClassFile.FieldType.boolean)) 2 86 [va_rf a0, .int a1, .int a2] zm_tvI (fn_X3_isNumber K a0 a1 a2) := by
  refine zm_ct H.1 (by decide +kernel) (zl_le (zl_R (zl_I (zl_I zl_nil))) (Nat.le_of_ble_eq_true rfl)) ?_
  intro p e R s m args below meth c n0 k0 C hX ls hl
  have hx := C.1
  have hb := C.2.1
  simp only [zg_I, zg_R, zg_nil] at hl
  have hl : lv_has ls 5 [(0, va_rf a0), (1, .int a1), (2, .int a2)] := hl
  refine rk_rf ?_
  unfold fn_X3_isNumber
  refine rk_ofs (fun _ _ _ _ _ k => lv_iconst (v := 0) hx hb dX3_isNumber_0 rfl (lr_istore_n hx hb dX3_isNumber_1 rfl hl (Nat.le_of_ble_eq_true rfl) [0, 1, 2] rfl ⟨trivial, ⟨trivial, ⟨rfl, trivial⟩⟩⟩ k)) (fun ls hl => ?_)
  refine rk_ofs (fun _ _ _ _ _ k => lv_iconst (v := 0) hx hb dX3_isNumber_2 rfl (lr_istore hx hb dX3_isNumber_3 hl (Nat.le_of_ble_eq_true rfl) [0, 1, 2, 3] rfl ⟨rfl, ⟨trivial, ⟨trivial, ⟨trivial, trivial⟩⟩⟩⟩ k)) (fun ls hl => ?_)
  refine rk_join (β := Int32 × Int32) (fun (b54 : Int32 × Int32) ls => lv_has ls 5 [(0, va_rf a0), (2, .int a2), (3, .int b54.1), (4, .int b54.2)]) (fun (b54 : Int32 × Int32) ls => F0 m 54 ls []) (fun b54 ls hl => ?_) (fun hJ54 => ?_)
  · refine rk_of (fun _ _ _ _ _ k => lr_aload_n hx hb dX3_isNumber_54 rfl (lv_at hl 0 rfl) k) ?_
    refine rk_get zm_rdR_eq C (hc_X3 H) (k := 18) (Nat.le_of_ble_eq_true rfl) in_X3 q2595 (fun _ h => h) dX3_isNumber_55 (fun v55 => ?_)
    refine rk_of (fun _ _ _ _ _ k => lv_iload_n hx hb dX3_isNumber_58 rfl (lv_at hl 1 rfl) (lv_iload_n hx hb dX3_isNumber_59 rfl (lv_at hl 2 rfl) k)) ?_
    refine rk_iast C H.2.2.1 dX3_isNumber_60 ?_
    refine rk_ite (fun _ _ _ _ _ k1 k2 => lv_iload hx hb dX3_isNumber_61 (lv_at hl 3 rfl) (lv_if_le (tgt := 70) hx hb dX3_isNumber_63 (by decide) k1 k2)) (fun c_63 => ?_) (fun c_63 => ?_)
    · refine rk_of (fun _ _ _ _ _ k => lv_iconst (v := 0) hx hb dX3_isNumber_70 rfl k) ?_
      exact rk_top (rf_iret C rfl dX3_isNumber_71)
    · refine rk_of (fun _ _ _ _ _ k => lv_iconst (v := 1) hx hb dX3_isNumber_66 rfl (lv_goto (tgt := 71) hx hb dX3_isNumber_67 (by decide) k)) ?_
      exact rk_top (rf_iret C rfl dX3_isNumber_71)
  · exact rf_X3_isNumber_5 H C hX a0 a1 a2 zm_N 0 0 _ ls (lv_sub hl [2, 3, 4, 1, 0] rfl) hJ54
theorem hd_X3_isSign : yX3_isSign.cls ≠ "java/lang/invoke/MethodHandle" ∧ yX3_isSign.cls ≠ "java/lang/invoke/VarHandle" ∧ (parseMethodDescriptor yX3_isSign.desc).map (fun d => d.parameters.length) = some 1 := by decide +kernel
noncomputable def fn_X3_isSign (K : zm_K) (a0 : zm_R) (a1 : Int32) : zm_M Int32 :=
  zm_bnd (zm_bnd (zm_is a0 20) fun _ => fn_X3_sign K a0) fun v1 =>
  zm_bnd (α := Int32) (
      if v1 = a1 then
        zm_ret 1
      else
        zm_ret 0
    ) fun b13 =>
  zm_bnd (zm_getI a0 20 20) fun v16 =>
  zm_bnd (α := Int32) (
      if b13 = 0 then
        zm_ret 0
      else
        zm_ret 1
    ) fun b28 =>
  zm_bnd (zm_putF K a0 20 20 (.int (v16 + b28))) fun _ =>
  zm_bnd (zm_grd (b13 = 0 ∨ b13 = 1)) fun _ =>
  zm_ret b13
theorem ct_X3_isSign {l : Launch} {Ω : zm_W} {K : zm_K} (H : zm_H Ω K) (a0 : zm_R) (a1 : Int32) : zm_Ct l Ω yX3_isSign (ws_ yX3_isSign cX3_isSign 3 (Option.some Jvm.ClassFile.FieldType.boolean)) 2 84 [va_rf a0, .int a1] zm_tvI (fn_X3_isSign K a0 a1) := by
  refine zm_ct H.1 (by decide +kernel) (zl_le (zl_R (zl_I zl_nil)) (Nat.le_of_ble_eq_true rfl)) ?_
  intro p e R s m args below meth c n0 k0 C hX ls hl
  have hx := C.1
  have hb := C.2.1
  simp only [zg_I, zg_R, zg_nil] at hl
  have hl : lv_has ls 3 [(0, va_rf a0), (1, .int a1)] := hl
  refine rk_rf ?_
  unfold fn_X3_isSign
  refine rk_of (fun _ _ _ _ _ k => lr_aload_n hx hb dX3_isSign_0 rfl (lv_at hl 0 rfl) k) ?_
  refine rk_callI hX (cl_V (rest := []) (av := []) C (hc_X3 H) (ct_X3_sign H a0) (lw_V q3012 q3014 qs92 q112 q3015) ⟨rfl, hd_X3_sign⟩ ⟨(Nat.le_of_ble_eq_true rfl), (Nat.le_of_ble_eq_true rfl)⟩ rfl hl.1 rfl (zw_le zw_nil (Nat.le_of_ble_eq_true rfl)) dX3_isSign_1) (fun v1 => ?_)
  refine rk_of (fun _ _ _ _ _ k => lv_iload_n hx hb dX3_isSign_4 rfl (lv_at hl 1 rfl) k) ?_
  refine rk_join (β := Int32) (fun (b13 : Int32) ls => lv_has ls 3 [(0, va_rf a0)]) (fun (b13 : Int32) ls => F0 m 13 ls [.int b13]) (fun b13 ls hl => ?_) (fun hJ13 => ?_)
  · refine rk_ofs (fun _ _ _ _ _ k => lr_istore_n hx hb dX3_isSign_13 rfl hl (Nat.le_of_ble_eq_true rfl) [0] rfl ⟨trivial, trivial⟩ k) (fun ls hl => ?_)
    refine rk_of (fun _ _ _ _ _ k => lr_aload_n hx hb dX3_isSign_14 rfl (lv_at hl 1 rfl) (lv_dup hx hb dX3_isSign_15 (va_rf_cat _) k)) ?_
    refine rk_get zm_rdI_eq C (hc_X3 H) (k := 20) (Nat.le_of_ble_eq_true rfl) in_X3 q2597 (fun _ h => h) dX3_isSign_16 (fun v16 => ?_)
    refine rk_of (fun _ _ _ _ _ k => lv_iload_n hx hb dX3_isSign_19 rfl (lv_at hl 0 rfl) k) ?_
    refine rk_join (β := Int32) (fun (b28 : Int32) ls => lv_has ls 3 [(2, .int b13)]) (fun (b28 : Int32) ls => F0 m 28 ls [.int b28, .int v16, va_rf a0]) (fun b28 ls hl => ?_) (fun hJ28 => ?_)
    · refine rk_of (fun _ _ _ _ _ k => lv_iadd hx hb dX3_isSign_28 k) ?_
      refine rk_put C H.2.2.1 (hc_X3 H) (k := 20) (Nat.le_of_ble_eq_true rfl) in_X3 (ty0 := tyX3) tyX3_ok nmX3 q2597 (fun _ h => h) (Or.inl rfl) rfl rfl dX3_isSign_29 ?_
      refine rk_of (fun _ _ _ _ _ k => lv_iload_n hx hb dX3_isSign_32 rfl (lv_at hl 0 rfl) k) ?_
      refine rk_grd (fun hg_33 => ?_)
      exact rk_top (rf_iret C (zn_Z hg_33) dX3_isSign_33)
    · refine rk_ite (fun _ _ _ _ _ k1 k2 => lv_if_eq (tgt := 27) hx hb dX3_isSign_20 (by decide) k1 k2) (fun c_20 => ?_) (fun c_20 => ?_)
      · refine rk_of (fun _ _ _ _ _ k => lv_iconst (v := 0) hx hb dX3_isSign_27 rfl k) ?_
        exact hJ28 0 ls (lv_sub hl [0] rfl)
      · refine rk_of (fun _ _ _ _ _ k => lv_iconst (v := 1) hx hb dX3_isSign_23 rfl (lv_goto (tgt := 28) hx hb dX3_isSign_24 (by decide) k)) ?_
        exact hJ28 1 ls (lv_sub hl [0] rfl)
  · refine rk_ite (fun _ _ _ _ _ k1 k2 => lv_icmp_ne (tgt := 12) hx hb dX3_isSign_5 (by decide) k2 k1) (fun c_5 => ?_) (fun c_5 => ?_)
    · refine rk_of (fun _ _ _ _ _ k => lv_iconst (v := 1) hx hb dX3_isSign_8 rfl (lv_goto (tgt := 13) hx hb dX3_isSign_9 (by decide) k)) ?_
      exact hJ13 1 ls (lv_sub hl [0] rfl)
    · refine rk_of (fun _ _ _ _ _ k => lv_iconst (v := 0) hx hb dX3_isSign_12 rfl k) ?_
      exact hJ13 0 ls (lv_sub hl [0] rfl)
theorem hd_X3_isMoved : yX3_isMoved.cls ≠ "java/lang/invoke/MethodHandle" ∧ yX3_isMoved.cls ≠ "java/lang/invoke/VarHandle" ∧ (parseMethodDescriptor yX3_isMoved.desc).map (fun d => d.parameters.length) = some 1 := by decide +kernel
noncomputable def fn_X3_isMoved (K : zm_K) (a0 : zm_R) (a1 : Int32) : zm_M Int32 :=
  zm_bnd (zm_bnd (zm_is a0 20) fun _ => fn_X3_isNumber K a0 3 a1) fun v3 =>
  if v3 = 0 then
    zm_ret 0
  else
    zm_bnd (zm_bnd (zm_is a0 20) fun _ => fn_X3_isSign K a0 32) fun v12 =>
    if v12 = 0 then
      zm_ret 0
    else
      zm_bnd (zm_bnd (zm_is a0 20) fun _ => fn_X3_isSign K a0 43) fun v23 =>
      zm_bnx (β := Unit) (
          if v23 = 0 then
            zm_bnd (zm_bnd (zm_is a0 20) fun _ => fn_X3_isSign K a0 45) fun v34 =>
            if v34 = 0 then
              zm_ret (Sum.inr 0)
            else
              zm_ret (Sum.inl ())
          else
            zm_ret (Sum.inl ())
        ) fun (_ : Unit) =>
      zm_bnd (zm_bnd (zm_is a0 20) fun _ => fn_X3_isNumber K a0 3 (a1 + 1)) fun v45 =>
      if v45 = 0 then
        zm_ret 0
      else
        zm_bnd (zm_getR a0 20 18) fun v54 =>
        zm_bnd (α := Int32) (
            if v23 = 0 then
              zm_bnd (zm_getR a0 20 18) fun v76 =>
              zm_bnd (zm_aldI .int v76 (a1 + 1)) fun v82 =>
              zm_ret (-v82)
            else
              zm_bnd (zm_getR a0 20 18) fun v65 =>
              zm_bnd (zm_aldI .int v65 (a1 + 1)) fun v71 =>
              zm_ret v71
          ) fun b84 =>
        zm_bnd (zm_astI K .int v54 (a1 + 1) b84) fun _ =>
        zm_ret 1
theorem ct_X3_isMoved {l : Launch} {Ω : zm_W} {K : zm_K} (H : zm_H Ω K) (a0 : zm_R) (a1 : Int32) : zm_Ct l Ω yX3_isMoved (ws_ yX3_isMoved cX3_isMoved 3 (Option.some Jvm.ClassFile.FieldType.boolean)) 3 110 [va_rf a0, .int a1] zm_tvI (fn_X3_isMoved K a0 a1) := by
  refine zm_ct H.1 (by decide +kernel) (zl_le (zl_R (zl_I zl_nil)) (Nat.le_of_ble_eq_true rfl)) ?_
  intro p e R s m args below meth c n0 k0 C hX ls hl
  have hx := C.1
  have hb := C.2.1
  simp only [zg_I, zg_R, zg_nil] at hl
  have hl : lv_has ls 3 [(0, va_rf a0), (1, .int a1)] := hl
  refine rk_rf ?_
  unfold fn_X3_isMoved
  refine rk_of (fun _ _ _ _ _ k => lr_aload_n hx hb dX3_isMoved_0 rfl (lv_at hl 0 rfl) (lv_iconst (v := 3) hx hb dX3_isMoved_1 rfl (lv_iload_n hx hb dX3_isMoved_2 rfl (lv_at hl 1 rfl) k))) ?_
  refine rk_callI hX (cl_V (rest := []) (av := [.int 3, .int a1]) C (hc_X3 H) (ct_X3_isNumber H a0 3 a1) (lw_V q3022 q3024 qs94 q112 q3025) ⟨rfl, hd_X3_isNumber⟩ ⟨(Nat.le_of_ble_eq_true rfl), (Nat.le_of_ble_eq_true rfl)⟩ rfl hl.1 rfl (zw_le zw_nil (Nat.le_of_ble_eq_true rfl)) dX3_isMoved_3) (fun v3 => ?_)
  refine rk_ite (fun _ _ _ _ _ k1 k2 => lv_if_eq (tgt := 18) hx hb dX3_isMoved_6 (by decide) k1 k2) (fun c_6 => ?_) (fun c_6 => ?_)
  · refine rk_of (fun _ _ _ _ _ k => lv_iconst (v := 0) hx hb dX3_isMoved_18 rfl k) ?_
    exact rk_top (rf_iret C rfl dX3_isMoved_19)
  · refine rk_of (fun _ _ _ _ _ k => lr_aload_n hx hb dX3_isMoved_9 rfl (lv_at hl 0 rfl) (lv_bipush (v := 32) hx hb dX3_isMoved_10 rfl k)) ?_
    refine rk_callI hX (cl_V (rest := []) (av := [.int 32]) C (hc_X3 H) (ct_X3_isSign H a0 32) (lw_V q3018 q3020 qs93 q112 q3021) ⟨rfl, hd_X3_isSign⟩ ⟨(Nat.le_of_ble_eq_true rfl), (Nat.le_of_ble_eq_true rfl)⟩ rfl hl.1 rfl (zw_le zw_nil (Nat.le_of_ble_eq_true rfl)) dX3_isMoved_12) (fun v12 => ?_)
    refine rk_ite (fun _ _ _ _ _ k1 k2 => lv_if_ne (tgt := 20) hx hb dX3_isMoved_15 (by decide) k2 k1) (fun c_15 => ?_) (fun c_15 => ?_)
    · refine rk_of (fun _ _ _ _ _ k => lv_iconst (v := 0) hx hb dX3_isMoved_18 rfl k) ?_
      exact rk_top (rf_iret C rfl dX3_isMoved_19)
    · refine rk_of (fun _ _ _ _ _ k => lr_aload_n hx hb dX3_isMoved_20 rfl (lv_at hl 0 rfl) (lv_bipush (v := 43) hx hb dX3_isMoved_21 rfl k)) ?_
      refine rk_callI hX (cl_V (rest := []) (av := [.int 43]) C (hc_X3 H) (ct_X3_isSign H a0 43) (lw_V q3018 q3020 qs93 q112 q3021) ⟨rfl, hd_X3_isSign⟩ ⟨(Nat.le_of_ble_eq_true rfl), (Nat.le_of_ble_eq_true rfl)⟩ rfl hl.1 rfl (zw_le zw_nil (Nat.le_of_ble_eq_true rfl)) dX3_isMoved_23) (fun v23 => ?_)
      refine rk_ofs (fun _ _ _ _ _ k => lr_istore_n hx hb dX3_isMoved_26 rfl hl (Nat.le_of_ble_eq_true rfl) [0, 1] rfl ⟨trivial, ⟨rfl, trivial⟩⟩ k) (fun ls hl => ?_)
      refine rk_of (fun _ _ _ _ _ k => lv_iload_n hx hb dX3_isMoved_27 rfl (lv_at hl 0 rfl) k) ?_
      refine rk_joinx (β := Unit) (fun (b40 : Unit) ls => lv_has ls 3 [(0, va_rf a0), (1, .int a1), (2, .int v23)]) (fun (b40 : Unit) ls => F0 m 40 ls []) (fun b40 ls hl => ?_) (fun hJ40 => ?_)
      · refine rk_of (fun _ _ _ _ _ k => lr_aload_n hx hb dX3_isMoved_40 rfl (lv_at hl 0 rfl) (lv_iconst (v := 3) hx hb dX3_isMoved_41 rfl (lv_iload_n hx hb dX3_isMoved_42 rfl (lv_at hl 1 rfl) (lv_iconst (v := 1) hx hb dX3_isMoved_43 rfl (lv_iadd hx hb dX3_isMoved_44 k))))) ?_
        refine rk_callI hX (cl_V (rest := []) (av := [.int 3, .int (a1 + 1)]) C (hc_X3 H) (ct_X3_isNumber H a0 3 (a1 + 1)) (lw_V q3022 q3024 qs94 q112 q3025) ⟨rfl, hd_X3_isNumber⟩ ⟨(Nat.le_of_ble_eq_true rfl), (Nat.le_of_ble_eq_true rfl)⟩ rfl hl.1 rfl (zw_le zw_nil (Nat.le_of_ble_eq_true rfl)) dX3_isMoved_45) (fun v45 => ?_)
        refine rk_ite (fun _ _ _ _ _ k1 k2 => lv_if_ne (tgt := 53) hx hb dX3_isMoved_48 (by decide) k2 k1) (fun c_48 => ?_) (fun c_48 => ?_)
        · refine rk_of (fun _ _ _ _ _ k => lv_iconst (v := 0) hx hb dX3_isMoved_51 rfl k) ?_
          exact rk_top (rf_iret C rfl dX3_isMoved_52)
        · refine rk_of (fun _ _ _ _ _ k => lr_aload_n hx hb dX3_isMoved_53 rfl (lv_at hl 0 rfl) k) ?_
          refine rk_get zm_rdR_eq C (hc_X3 H) (k := 18) (Nat.le_of_ble_eq_true rfl) in_X3 q2595 (fun _ h => h) dX3_isMoved_54 (fun v54 => ?_)
          refine rk_of (fun _ _ _ _ _ k => lv_iload_n hx hb dX3_isMoved_57 rfl (lv_at hl 1 rfl) (lv_iconst (v := 1) hx hb dX3_isMoved_58 rfl (lv_iadd hx hb dX3_isMoved_59 (lv_iload_n hx hb dX3_isMoved_60 rfl (lv_at hl 2 rfl) k)))) ?_
          refine rk_join (β := Int32) (fun (b84 : Int32) ls => lv_has ls 3 []) (fun (b84 : Int32) ls => F0 m 84 ls [.int b84, .int (a1 + 1), va_rf v54]) (fun b84 ls hl => ?_) (fun hJ84 => ?_)
          · refine rk_iast C H.2.2.1 dX3_isMoved_84 ?_
            refine rk_of (fun _ _ _ _ _ k => lv_iconst (v := 1) hx hb dX3_isMoved_85 rfl k) ?_
            exact rk_top (rf_iret C rfl dX3_isMoved_86)
          · refine rk_ite (fun _ _ _ _ _ k1 k2 => lv_if_eq (tgt := 75) hx hb dX3_isMoved_61 (by decide) k1 k2) (fun c_61 => ?_) (fun c_61 => ?_)
            · refine rk_of (fun _ _ _ _ _ k => lr_aload_n hx hb dX3_isMoved_75 rfl (lv_at hl 0 rfl) k) ?_
              refine rk_get zm_rdR_eq C (hc_X3 H) (k := 18) (Nat.le_of_ble_eq_true rfl) in_X3 q2595 (fun _ h => h) dX3_isMoved_76 (fun v76 => ?_)
              refine rk_of (fun _ _ _ _ _ k => lv_iload_n hx hb dX3_isMoved_79 rfl (lv_at hl 1 rfl) (lv_iconst (v := 1) hx hb dX3_isMoved_80 rfl (lv_iadd hx hb dX3_isMoved_81 k))) ?_
              refine rk_iald C dX3_isMoved_82 (fun v82 => ?_)
              refine rk_of (fun _ _ _ _ _ k => lv_ineg hx hb dX3_isMoved_83 k) ?_
              exact hJ84 (-v82) ls (lv_sub hl [] rfl)
            · refine rk_of (fun _ _ _ _ _ k => lr_aload_n hx hb dX3_isMoved_64 rfl (lv_at hl 0 rfl) k) ?_
              refine rk_get zm_rdR_eq C (hc_X3 H) (k := 18) (Nat.le_of_ble_eq_true rfl) in_X3 q2595 (fun _ h => h) dX3_isMoved_65 (fun v65 => ?_)
              refine rk_of (fun _ _ _ _ _ k => lv_iload_n hx hb dX3_isMoved_68 rfl (lv_at hl 1 rfl) (lv_iconst (v := 1) hx hb dX3_isMoved_69 rfl (lv_iadd hx hb dX3_isMoved_70 k))) ?_
              refine rk_iald C dX3_isMoved_71 (fun v71 => ?_)
              refine rk_of (fun _ _ _ _ _ k => lv_goto (tgt := 84) hx hb dX3_isMoved_72 (by decide) k) ?_
              exact hJ84 v71 ls (lv_sub hl [] rfl)
      · refine rk_ite (fun _ _ _ _ _ k1 k2 => lv_if_ne (tgt := 40) hx hb dX3_isMoved_28 (by decide) k2 k1) (fun c_28 => ?_) (fun c_28 => ?_)
        · refine rk_of (fun _ _ _ _ _ k => lr_aload_n hx hb dX3_isMoved_31 rfl (lv_at hl 1 rfl) (lv_bipush (v := 45) hx hb dX3_isMoved_32 rfl k)) ?_
          refine rk_callI hX (cl_V (rest := []) (av := [.int 45]) C (hc_X3 H) (ct_X3_isSign H a0 45) (lw_V q3018 q3020 qs93 q112 q3021) ⟨rfl, hd_X3_isSign⟩ ⟨(Nat.le_of_ble_eq_true rfl), (Nat.le_of_ble_eq_true rfl)⟩ rfl hl.1 rfl (zw_le zw_nil (Nat.le_of_ble_eq_true rfl)) dX3_isMoved_34) (fun v34 => ?_)
          refine rk_ite (fun _ _ _ _ _ k1 k2 => lv_if_eq (tgt := 51) hx hb dX3_isMoved_37 (by decide) k1 k2) (fun c_37 => ?_) (fun c_37 => ?_)
          · refine rk_of (fun _ _ _ _ _ k => lv_iconst (v := 0) hx hb dX3_isMoved_51 rfl k) ?_
            refine rk_inr ?_
            exact rk_top (rf_iret C rfl dX3_isMoved_52)
          · exact hJ40 () ls (lv_sub hl [1, 2, 0] rfl)
        · exact hJ40 () ls (lv_sub hl [1, 2, 0] rfl)
theorem hd_X3_isOnce : yX3_isOnce.cls ≠ "java/lang/invoke/MethodHandle" ∧ yX3_isOnce.cls ≠ "java/lang/invoke/VarHandle" ∧ (parseMethodDescriptor yX3_isOnce.desc).map (fun d => d.parameters.length) = some 0 := by decide +kernel
noncomputable def fn_X3_isOnce_21 (K : zm_K) (p0 : zm_R) (p2 : Int32) : Nat → Int32 → Int32 → zm_M ((Int32) ⊕ ((Int32) ⊕ (Int32)))
  | 0, _, _ => zm_fl
  | n + 1, x1, x3 =>
    if 600 ≤ x3 then
      zm_ret (Sum.inl x1)
    else
      zm_bnd (zm_bnd (zm_is p0 20) fun _ => fn_X3_letIn K p0 p2 x3 (x3 + 1)) fun v34 =>
      if v34 ≤ 1 then
        fn_X3_isOnce_21 K p0 p2 n (x1 + v34) (x3 + 1)
      else
        zm_ret (Sum.inr (Sum.inr 0))
noncomputable def fn_X3_isOnce_9 (K : zm_K) (p0 : zm_R) : Nat → Int32 → Int32 → zm_M ((Int32) ⊕ (Int32))
  | 0, _, _ => zm_fl
  | n + 1, x1, x2 =>
    zm_bnd (zm_getR p0 20 0) fun v11 =>
    zm_bnd (zm_aldI .int v11 0) fun v15 =>
    if v15 ≤ x2 then
      zm_ret (Sum.inl x1)
    else
      zm_bnx (β := Int32) (fn_X3_isOnce_21 K p0 x2 zm_N x1 0) fun b58 =>
      fn_X3_isOnce_9 K p0 n b58 (x2 + 1)
noncomputable def fn_X3_isOnce_68 (K : zm_K) (p0 : zm_R) (p1 : Int32) : Nat → Int32 → Int32 → zm_M (Int32)
  | 0, _, _ => zm_fl
  | n + 1, x2, x3 =>
    zm_bnd (zm_getR p0 20 0) fun v70 =>
    zm_bnd (zm_aldI .int v70 1) fun v74 =>
    if v74 ≤ x3 then
      zm_ret x2
    else
      zm_bnd (zm_bnd (zm_is p0 20) fun _ => fn_X3_isOver K p0 x3) fun v81 =>
      zm_bnd (α := Int32) (
          if v81 = 0 then
            zm_bnd (zm_bnd (zm_is p0 20) fun _ => fn_X3_minutesOf K p0 x3) fun v93 =>
            zm_ret v93
          else
            zm_ret 0
        ) fun b96 =>
      fn_X3_isOnce_68 K p0 p1 n (x2 + b96) (x3 + 1)
noncomputable def fn_X3_isOnce (K : zm_K) (a0 : zm_R) : zm_M Int32 :=
  zm_bnd (zm_putF K a0 20 5 (.int 0)) fun _ =>
  zm_bnx (β := Int32) (fn_X3_isOnce_9 K a0 zm_N 0 0) fun b64 =>
  zm_bnd (α := Int32) (fn_X3_isOnce_68 K a0 b64 zm_N 0 0) fun b104 =>
  if b104 = b64 then
    zm_ret 1
  else
    zm_ret 0
theorem rf_X3_isOnce_21 (H : zm_H Ω K) (C : zm_C p l R s m args meth c Ω lw_all cX3_isOnce yX3_isOnce.cls yX3_isOnce.name 5 5 153 (Option.some Jvm.ClassFile.FieldType.boolean)) (hX : zm_XO p l e R s m args below meth c Ω n0 k0 (zm_QFs below args s Ω n0 k0 zm_tvI)) (p0 : zm_R) (p2 : Int32) : ∀ (n : Nat) (x1 : Int32) (x3 : Int32) (J : ((Int32) ⊕ ((Int32) ⊕ (Int32))) → zm_M Int32) (ls : Array Slot), lv_has ls 5 [(0, va_rf p0), (2, .int p2), (1, .int x1), (3, .int x3)] → (∀ (b : Int32) (ls : Array Slot), lv_has ls 5 [(0, va_rf p0), (2, .int p2), (1, .int b)] → zm_RK p l e R s m args below meth c Ω n0 k0 (zm_QFs below args s Ω n0 k0 zm_tvI) (zm_ret (Sum.inl b)) J (F0 m 58 ls [])) → (∀ (v : Int32) (g : JFrame), zm_RF p l e R s m args below meth c Ω n0 k0 (zm_QFs below args s Ω n0 k0 zm_tvI) (zm_ret v) g → zm_RK p l e R s m args below meth c Ω n0 k0 (zm_QFs below args s Ω n0 k0 zm_tvI) (zm_ret (Sum.inr (Sum.inr v))) J g) → zm_RK p l e R s m args below meth c Ω n0 k0 (zm_QFs below args s Ω n0 k0 zm_tvI) (fn_X3_isOnce_21 K p0 p2 n x1 x3) J (F0 m 21 ls []) := by
  have hx := C.1
  have hb := C.2.1
  intro n
  induction n with
  | zero => intro x1 x3 J ls hl hJ hR; exact rk_fl
  | succ n ih =>
    intro x1 x3 J ls hl hJ hR
    unfold fn_X3_isOnce_21
    refine rk_ite (fun _ _ _ _ _ k1 k2 => lv_iload_n hx hb dX3_isOnce_21 rfl (lv_at hl 3 rfl) (lv_sipush (v := 600) hx hb dX3_isOnce_22 rfl (lv_icmp_ge (tgt := 58) hx hb dX3_isOnce_25 (by decide) k1 k2))) (fun c_25 => ?_) (fun c_25 => ?_)
    · exact hJ x1 ls (lv_sub hl [0, 1, 2] rfl)
    · refine rk_of (fun _ _ _ _ _ k => lr_aload_n hx hb dX3_isOnce_28 rfl (lv_at hl 0 rfl) (lv_iload_n hx hb dX3_isOnce_29 rfl (lv_at hl 1 rfl) (lv_iload_n hx hb dX3_isOnce_30 rfl (lv_at hl 3 rfl) (lv_iload_n hx hb dX3_isOnce_31 rfl (lv_at hl 3 rfl) (lv_iconst (v := 1) hx hb dX3_isOnce_32 rfl (lv_iadd hx hb dX3_isOnce_33 k)))))) ?_
      refine rk_callI hX (cl_V (rest := []) (av := [.int p2, .int x3, .int (x3 + 1)]) C (hc_X3 H) (ct_X3_letIn H p0 p2 x3 (x3 + 1)) (lw_V q2874 q2876 qs76 q112 q2877) ⟨rfl, hd_X3_letIn⟩ ⟨(Nat.le_of_ble_eq_true rfl), (Nat.le_of_ble_eq_true rfl)⟩ rfl hl.1 rfl (zw_le zw_nil (Nat.le_of_ble_eq_true rfl)) dX3_isOnce_34) (fun v34 => ?_)
      refine rk_ofs (fun _ _ _ _ _ k => lr_istore hx hb dX3_isOnce_37 hl (Nat.le_of_ble_eq_true rfl) [0, 1, 2, 3] rfl ⟨trivial, ⟨trivial, ⟨trivial, ⟨rfl, trivial⟩⟩⟩⟩ k) (fun ls hl => ?_)
      refine rk_ite (fun _ _ _ _ _ k1 k2 => lv_iload hx hb dX3_isOnce_39 (lv_at hl 0 rfl) (lv_iconst (v := 1) hx hb dX3_isOnce_41 rfl (lv_icmp_le (tgt := 47) hx hb dX3_isOnce_42 (by decide) k1 k2))) (fun c_42 => ?_) (fun c_42 => ?_)
      · refine rk_ofs (fun _ _ _ _ _ k => lv_iload_n hx hb dX3_isOnce_47 rfl (lv_at hl 3 rfl) (lv_iload hx hb dX3_isOnce_48 (lv_at hl 0 rfl) (lv_iadd hx hb dX3_isOnce_50 (lr_istore_n hx hb dX3_isOnce_51 rfl hl (Nat.le_of_ble_eq_true rfl) [1, 2, 4] rfl ⟨va_rf_cat _, ⟨trivial, ⟨trivial, trivial⟩⟩⟩ k)))) (fun ls hl => ?_)
        refine rk_ofs (fun _ _ _ _ _ k => lr_iinc (v := x3 + 1) hx hb dX3_isOnce_52 hl (k := 3) rfl rfl (Nat.le_of_ble_eq_true rfl) [0, 1, 2] rfl ⟨trivial, ⟨trivial, ⟨rfl, trivial⟩⟩⟩ k) (fun ls hl => ?_)
        refine rk_of (fun _ _ _ _ _ k => lv_goto (tgt := 21) hx hb dX3_isOnce_55 (by decide) k) ?_
        exact ih (x1 + v34) (x3 + 1) J ls (lv_sub hl [2, 3, 1, 0] rfl) hJ hR
      · refine rk_of (fun _ _ _ _ _ k => lv_iconst (v := 0) hx hb dX3_isOnce_45 rfl k) ?_
        exact hR _ _ (rf_iret C rfl dX3_isOnce_46)
theorem rf_X3_isOnce_9 (H : zm_H Ω K) (C : zm_C p l R s m args meth c Ω lw_all cX3_isOnce yX3_isOnce.cls yX3_isOnce.name 5 5 153 (Option.some Jvm.ClassFile.FieldType.boolean)) (hX : zm_XO p l e R s m args below meth c Ω n0 k0 (zm_QFs below args s Ω n0 k0 zm_tvI)) (p0 : zm_R) : ∀ (n : Nat) (x1 : Int32) (x2 : Int32) (J : ((Int32) ⊕ (Int32)) → zm_M Int32) (ls : Array Slot), lv_has ls 5 [(0, va_rf p0), (1, .int x1), (2, .int x2)] → (∀ (b : Int32) (ls : Array Slot), lv_has ls 5 [(0, va_rf p0), (1, .int b)] → zm_RK p l e R s m args below meth c Ω n0 k0 (zm_QFs below args s Ω n0 k0 zm_tvI) (zm_ret (Sum.inl b)) J (F0 m 64 ls [])) → (∀ (v : Int32) (g : JFrame), zm_RF p l e R s m args below meth c Ω n0 k0 (zm_QFs below args s Ω n0 k0 zm_tvI) (zm_ret v) g → zm_RK p l e R s m args below meth c Ω n0 k0 (zm_QFs below args s Ω n0 k0 zm_tvI) (zm_ret (Sum.inr v)) J g) → zm_RK p l e R s m args below meth c Ω n0 k0 (zm_QFs below args s Ω n0 k0 zm_tvI) (fn_X3_isOnce_9 K p0 n x1 x2) J (F0 m 9 ls []) := by
  have hx := C.1
  have hb := C.2.1
  intro n
  induction n with
  | zero => intro x1 x2 J ls hl hJ hR; exact rk_fl
  | succ n ih =>
    intro x1 x2 J ls hl hJ hR
    unfold fn_X3_isOnce_9
    refine rk_of (fun _ _ _ _ _ k => lv_iload_n hx hb dX3_isOnce_9 rfl (lv_at hl 2 rfl) (lr_aload_n hx hb dX3_isOnce_10 rfl (lv_at hl 0 rfl) k)) ?_
    refine rk_get zm_rdR_eq C (hc_X3 H) (k := 0) (Nat.le_of_ble_eq_true rfl) in_X3 q2577 (fun _ h => h) dX3_isOnce_11 (fun v11 => ?_)
    refine rk_of (fun _ _ _ _ _ k => lv_iconst (v := 0) hx hb dX3_isOnce_14 rfl k) ?_
    refine rk_iald C dX3_isOnce_15 (fun v15 => ?_)
    refine rk_ite (fun _ _ _ _ _ k1 k2 => lv_icmp_ge (tgt := 64) hx hb dX3_isOnce_16 (by decide) k1 k2) (fun c_16 => ?_) (fun c_16 => ?_)
    · exact hJ x1 ls (lv_sub hl [0, 1] rfl)
    · refine rk_ofs (fun _ _ _ _ _ k => lv_iconst (v := 0) hx hb dX3_isOnce_19 rfl (lr_istore_n hx hb dX3_isOnce_20 rfl hl (Nat.le_of_ble_eq_true rfl) [0, 1, 2] rfl ⟨trivial, ⟨trivial, ⟨rfl, trivial⟩⟩⟩ k)) (fun ls hl => ?_)
      refine rk_joinx (β := Int32) (fun (b58 : Int32) ls => lv_has ls 5 [(0, va_rf p0), (2, .int x2), (1, .int b58)]) (fun (b58 : Int32) ls => F0 m 58 ls []) (fun b58 ls hl => ?_) (fun hJ58 => ?_)
      · refine rk_ofs (fun _ _ _ _ _ k => lr_iinc (v := x2 + 1) hx hb dX3_isOnce_58 hl (k := 1) rfl rfl (Nat.le_of_ble_eq_true rfl) [0, 2] rfl ⟨trivial, ⟨rfl, trivial⟩⟩ k) (fun ls hl => ?_)
        refine rk_of (fun _ _ _ _ _ k => lv_goto (tgt := 9) hx hb dX3_isOnce_61 (by decide) k) ?_
        exact ih b58 (x2 + 1) J ls (lv_sub hl [1, 2, 0] rfl) hJ hR
      · exact rf_X3_isOnce_21 H C hX p0 x2 zm_N x1 0 _ ls (lv_sub hl [1, 3, 2, 0] rfl) hJ58 (fun v g k9 => by
        refine rk_inr ?_
        exact hR _ _ (k9))
theorem rf_X3_isOnce_68 (H : zm_H Ω K) (C : zm_C p l R s m args meth c Ω lw_all cX3_isOnce yX3_isOnce.cls yX3_isOnce.name 5 5 153 (Option.some Jvm.ClassFile.FieldType.boolean)) (hX : zm_XO p l e R s m args below meth c Ω n0 k0 (zm_QFs below args s Ω n0 k0 zm_tvI)) (p0 : zm_R) (p1 : Int32) : ∀ (n : Nat) (x2 : Int32) (x3 : Int32) (J : (Int32) → zm_M Int32) (ls : Array Slot), lv_has ls 5 [(0, va_rf p0), (1, .int p1), (2, .int x2), (3, .int x3)] → (∀ (b : Int32) (ls : Array Slot), lv_has ls 5 [(1, .int p1), (2, .int b)] → zm_RK p l e R s m args below meth c Ω n0 k0 (zm_QFs below args s Ω n0 k0 zm_tvI) (zm_ret b) J (F0 m 104 ls [])) → zm_RK p l e R s m args below meth c Ω n0 k0 (zm_QFs below args s Ω n0 k0 zm_tvI) (fn_X3_isOnce_68 K p0 p1 n x2 x3) J (F0 m 68 ls []) := by
  have hx := C.1
  have hb := C.2.1
  intro n
  induction n with
  | zero => intro x2 x3 J ls hl hJ; exact rk_fl
  | succ n ih =>
    intro x2 x3 J ls hl hJ
    unfold fn_X3_isOnce_68
    refine rk_of (fun _ _ _ _ _ k => lv_iload_n hx hb dX3_isOnce_68 rfl (lv_at hl 3 rfl) (lr_aload_n hx hb dX3_isOnce_69 rfl (lv_at hl 0 rfl) k)) ?_
    refine rk_get zm_rdR_eq C (hc_X3 H) (k := 0) (Nat.le_of_ble_eq_true rfl) in_X3 q2577 (fun _ h => h) dX3_isOnce_70 (fun v70 => ?_)
    refine rk_of (fun _ _ _ _ _ k => lv_iconst (v := 1) hx hb dX3_isOnce_73 rfl k) ?_
    refine rk_iald C dX3_isOnce_74 (fun v74 => ?_)
    refine rk_ite (fun _ _ _ _ _ k1 k2 => lv_icmp_ge (tgt := 104) hx hb dX3_isOnce_75 (by decide) k1 k2) (fun c_75 => ?_) (fun c_75 => ?_)
    · exact hJ x2 ls (lv_sub hl [1, 2] rfl)
    · refine rk_of (fun _ _ _ _ _ k => lv_iload_n hx hb dX3_isOnce_78 rfl (lv_at hl 2 rfl) (lr_aload_n hx hb dX3_isOnce_79 rfl (lv_at hl 0 rfl) (lv_iload_n hx hb dX3_isOnce_80 rfl (lv_at hl 3 rfl) k))) ?_
      refine rk_callI hX (cl_V (rest := [.int x2]) (av := [.int x3]) C (hc_X3 H) (ct_X3_isOver H p0 x3) (lw_V q2703 q2705 qs53 q112 q2706) ⟨rfl, hd_X3_isOver⟩ ⟨(Nat.le_of_ble_eq_true rfl), (Nat.le_of_ble_eq_true rfl)⟩ rfl hl.1 rfl (zw_le (zw_I zw_nil) (Nat.le_of_ble_eq_true rfl)) dX3_isOnce_81) (fun v81 => ?_)
      refine rk_join (β := Int32) (fun (b96 : Int32) ls => lv_has ls 5 [(0, va_rf p0), (1, .int p1), (3, .int x3)]) (fun (b96 : Int32) ls => F0 m 96 ls [.int b96, .int x2]) (fun b96 ls hl => ?_) (fun hJ96 => ?_)
      · refine rk_ofs (fun _ _ _ _ _ k => lv_iadd hx hb dX3_isOnce_96 (lr_istore_n hx hb dX3_isOnce_97 rfl hl (Nat.le_of_ble_eq_true rfl) [0, 1, 2] rfl ⟨trivial, ⟨rfl, ⟨trivial, trivial⟩⟩⟩ k)) (fun ls hl => ?_)
        refine rk_ofs (fun _ _ _ _ _ k => lr_iinc (v := x3 + 1) hx hb dX3_isOnce_98 hl (k := 3) rfl rfl (Nat.le_of_ble_eq_true rfl) [0, 1, 2] rfl ⟨rfl, ⟨trivial, ⟨trivial, trivial⟩⟩⟩ k) (fun ls hl => ?_)
        refine rk_of (fun _ _ _ _ _ k => lv_goto (tgt := 68) hx hb dX3_isOnce_101 (by decide) k) ?_
        exact ih (x2 + b96) (x3 + 1) J ls (lv_sub hl [2, 3, 1, 0] rfl) hJ
      · refine rk_ite (fun _ _ _ _ _ k1 k2 => lv_if_eq (tgt := 91) hx hb dX3_isOnce_84 (by decide) k1 k2) (fun c_84 => ?_) (fun c_84 => ?_)
        · refine rk_of (fun _ _ _ _ _ k => lr_aload_n hx hb dX3_isOnce_91 rfl (lv_at hl 0 rfl) (lv_iload_n hx hb dX3_isOnce_92 rfl (lv_at hl 3 rfl) k)) ?_
          refine rk_callI hX (cl_V (rest := [.int x2]) (av := [.int x3]) C (hc_X3 H) (ct_X3_minutesOf H p0 x3) (lw_V q2738 q2740 qs60 q112 q2741) ⟨rfl, hd_X3_minutesOf⟩ ⟨(Nat.le_of_ble_eq_true rfl), (Nat.le_of_ble_eq_true rfl)⟩ rfl hl.1 rfl (zw_le (zw_I zw_nil) (Nat.le_of_ble_eq_true rfl)) dX3_isOnce_93) (fun v93 => ?_)
          exact hJ96 v93 ls (lv_sub hl [0, 1, 3] rfl)
        · refine rk_of (fun _ _ _ _ _ k => lv_iconst (v := 0) hx hb dX3_isOnce_87 rfl (lv_goto (tgt := 96) hx hb dX3_isOnce_88 (by decide) k)) ?_
          exact hJ96 0 ls (lv_sub hl [0, 1, 3] rfl)
theorem ct_X3_isOnce {l : Launch} {Ω : zm_W} {K : zm_K} (H : zm_H Ω K) (a0 : zm_R) : zm_Ct l Ω yX3_isOnce (ws_ yX3_isOnce cX3_isOnce 5 (Option.some Jvm.ClassFile.FieldType.boolean)) 5 153 [va_rf a0] zm_tvI (fn_X3_isOnce K a0) := by
  refine zm_ct H.1 (by decide +kernel) (zl_le (zl_R zl_nil) (Nat.le_of_ble_eq_true rfl)) ?_
  intro p e R s m args below meth c n0 k0 C hX ls hl
  have hx := C.1
  have hb := C.2.1
  simp only [zg_R, zg_nil] at hl
  have hl : lv_has ls 5 [(0, va_rf a0)] := hl
  refine rk_rf ?_
  unfold fn_X3_isOnce
  refine rk_of (fun _ _ _ _ _ k => lr_aload_n hx hb dX3_isOnce_0 rfl (lv_at hl 0 rfl) (lv_iconst (v := 0) hx hb dX3_isOnce_1 rfl k)) ?_
  refine rk_put C H.2.2.1 (hc_X3 H) (k := 5) (Nat.le_of_ble_eq_true rfl) in_X3 (ty0 := tyX3) tyX3_ok nmX3 q2582 (fun _ h => h) (Or.inl rfl) rfl rfl dX3_isOnce_2 ?_
  refine rk_ofs (fun _ _ _ _ _ k => lv_iconst (v := 0) hx hb dX3_isOnce_5 rfl (lr_istore_n hx hb dX3_isOnce_6 rfl hl (Nat.le_of_ble_eq_true rfl) [0] rfl ⟨va_rf_cat _, trivial⟩ k)) (fun ls hl => ?_)
  refine rk_ofs (fun _ _ _ _ _ k => lv_iconst (v := 0) hx hb dX3_isOnce_7 rfl (lr_istore_n hx hb dX3_isOnce_8 rfl hl (Nat.le_of_ble_eq_true rfl) [0, 1] rfl ⟨rfl, ⟨trivial, trivial⟩⟩ k)) (fun ls hl => ?_)
  refine rk_joinx (β := Int32) (fun (b64 : Int32) ls => lv_has ls 5 [(0, va_rf a0), (1, .int b64)]) (fun (b64 : Int32) ls => F0 m 64 ls []) (fun b64 ls hl => ?_) (fun hJ64 => ?_)
  · refine rk_ofs (fun _ _ _ _ _ k => lv_iconst (v := 0) hx hb dX3_isOnce_64 rfl (lr_istore_n hx hb dX3_isOnce_65 rfl hl (Nat.le_of_ble_eq_true rfl) [0, 1] rfl ⟨trivial, ⟨rfl, trivial⟩⟩ k)) (fun ls hl => ?_)
    refine rk_ofs (fun _ _ _ _ _ k => lv_iconst (v := 0) hx hb dX3_isOnce_66 rfl (lr_istore_n hx hb dX3_isOnce_67 rfl hl (Nat.le_of_ble_eq_true rfl) [0, 1, 2] rfl ⟨rfl, ⟨trivial, ⟨trivial, trivial⟩⟩⟩ k)) (fun ls hl => ?_)
    refine rk_join (β := Int32) (fun (b104 : Int32) ls => lv_has ls 5 [(1, .int b64), (2, .int b104)]) (fun (b104 : Int32) ls => F0 m 104 ls []) (fun b104 ls hl => ?_) (fun hJ104 => ?_)
    · refine rk_ite (fun _ _ _ _ _ k1 k2 => lv_iload_n hx hb dX3_isOnce_104 rfl (lv_at hl 1 rfl) (lv_iload_n hx hb dX3_isOnce_105 rfl (lv_at hl 0 rfl) (lv_icmp_ne (tgt := 113) hx hb dX3_isOnce_106 (by decide) k2 k1))) (fun c_106 => ?_) (fun c_106 => ?_)
      · refine rk_of (fun _ _ _ _ _ k => lv_iconst (v := 1) hx hb dX3_isOnce_109 rfl (lv_goto (tgt := 114) hx hb dX3_isOnce_110 (by decide) k)) ?_
        exact rk_top (rf_iret C rfl dX3_isOnce_114)
      · refine rk_of (fun _ _ _ _ _ k => lv_iconst (v := 0) hx hb dX3_isOnce_113 rfl k) ?_
        exact rk_top (rf_iret C rfl dX3_isOnce_114)
    · exact rf_X3_isOnce_68 H C hX a0 b64 zm_N 0 0 _ ls (lv_sub hl [2, 3, 1, 0] rfl) hJ104
  · exact rf_X3_isOnce_9 H C hX a0 zm_N 0 0 _ ls (lv_sub hl [2, 1, 0] rfl) hJ64 (fun v g k9 => by
        refine rk_inr ?_
        exact rk_top (k9))
theorem hd_X3_isSound : yX3_isSound.cls ≠ "java/lang/invoke/MethodHandle" ∧ yX3_isSound.cls ≠ "java/lang/invoke/VarHandle" ∧ (parseMethodDescriptor yX3_isSound.desc).map (fun d => d.parameters.length) = some 1 := by decide +kernel
noncomputable def fn_X3_isSound (K : zm_K) (a0 : zm_R) (a1 : Int32) : zm_M Int32 :=
  zm_bnd (zm_getR a0 20 18) fun v1 =>
  zm_bnd (zm_aldI .int v1 (a1 + 1)) fun v7 =>
  zm_bnd (zm_getR a0 20 18) fun v10 =>
  zm_bnd (zm_aldI .int v10 (a1 + 2)) fun v16 =>
  zm_bnd (zm_getR a0 20 18) fun v19 =>
  zm_bnd (zm_aldI .int v19 (a1 + 3)) fun v25 =>
  zm_bnd (zm_getR a0 20 18) fun v29 =>
  zm_bnd (zm_aldI .int v29 a1) fun v33 =>
  if v33 = 0 then
    zm_bnd (zm_bnd (zm_is a0 20) fun _ => fn_X3_isBox K a0 v7) fun v78 =>
    if v78 = 0 then
      zm_ret 0
    else
      zm_bnd (zm_getR a0 20 18) fun v88 =>
      zm_bnd (zm_aldI .int v88 (a1 + 4)) fun v94 =>
      zm_bnd (fn_X3_isFor K v16 v25 v94) fun v95 =>
      if v95 = 0 then
        zm_ret 0
      else
        zm_ret 1
  else
    if v33 = 1 then
      zm_bnd (zm_bnd (zm_is a0 20) fun _ => fn_X3_isLetting K a0 v7) fun v146 =>
      zm_bnd (zm_grd (v146 = 0 ∨ v146 = 1)) fun _ =>
      zm_ret v146
    else
      if v33 = 2 then
        zm_bnd (zm_bnd (zm_is a0 20) fun _ => fn_X3_isLetting K a0 v7) fun v117 =>
        if v117 = 0 then
          zm_ret 0
        else
          zm_bnd (fn_X3_isBy K v16) fun v124 =>
          if v124 = 0 then
            zm_ret 0
          else
            zm_ret 1
      else
        if v33 = 3 then
          zm_bnd (zm_bnd (zm_is a0 20) fun _ => fn_X3_isLetting K a0 v7) fun v146 =>
          zm_bnd (zm_grd (v146 = 0 ∨ v146 = 1)) fun _ =>
          zm_ret v146
        else
          if v33 = 4 then
            zm_bnd (fn_X3_isFor K v7 v16 v25) fun v111 =>
            zm_bnd (zm_grd (v111 = 0 ∨ v111 = 1)) fun _ =>
            zm_ret v111
          else
            if v33 = 5 then
              zm_bnd (zm_bnd (zm_is a0 20) fun _ => fn_X3_isWish K a0 v7) fun v138 =>
              zm_bnd (zm_grd (v138 = 0 ∨ v138 = 1)) fun _ =>
              zm_ret v138
            else
              if v33 = 6 then
                zm_ret 1
              else
                zm_bnd (zm_bnd (zm_is a0 20) fun _ => fn_X3_isLetting K a0 v7) fun v146 =>
                zm_bnd (zm_grd (v146 = 0 ∨ v146 = 1)) fun _ =>
                zm_ret v146
theorem ct_X3_isSound {l : Launch} {Ω : zm_W} {K : zm_K} (H : zm_H Ω K) (a0 : zm_R) (a1 : Int32) : zm_Ct l Ω yX3_isSound (ws_ yX3_isSound cX3_isSound 5 (Option.some Jvm.ClassFile.FieldType.boolean)) 4 128 [va_rf a0, .int a1] zm_tvI (fn_X3_isSound K a0 a1) := by
  refine zm_ct H.1 (by decide +kernel) (zl_le (zl_R (zl_I zl_nil)) (Nat.le_of_ble_eq_true rfl)) ?_
  intro p e R s m args below meth c n0 k0 C hX ls hl
  have hx := C.1
  have hb := C.2.1
  simp only [zg_I, zg_R, zg_nil] at hl
  have hl : lv_has ls 5 [(0, va_rf a0), (1, .int a1)] := hl
  refine rk_rf ?_
  unfold fn_X3_isSound
  refine rk_of (fun _ _ _ _ _ k => lr_aload_n hx hb dX3_isSound_0 rfl (lv_at hl 0 rfl) k) ?_
  refine rk_get zm_rdR_eq C (hc_X3 H) (k := 18) (Nat.le_of_ble_eq_true rfl) in_X3 q2595 (fun _ h => h) dX3_isSound_1 (fun v1 => ?_)
  refine rk_of (fun _ _ _ _ _ k => lv_iload_n hx hb dX3_isSound_4 rfl (lv_at hl 1 rfl) (lv_iconst (v := 1) hx hb dX3_isSound_5 rfl (lv_iadd hx hb dX3_isSound_6 k))) ?_
  refine rk_iald C dX3_isSound_7 (fun v7 => ?_)
  refine rk_ofs (fun _ _ _ _ _ k => lr_istore_n hx hb dX3_isSound_8 rfl hl (Nat.le_of_ble_eq_true rfl) [0, 1] rfl ⟨trivial, ⟨rfl, trivial⟩⟩ k) (fun ls hl => ?_)
  refine rk_of (fun _ _ _ _ _ k => lr_aload_n hx hb dX3_isSound_9 rfl (lv_at hl 1 rfl) k) ?_
  refine rk_get zm_rdR_eq C (hc_X3 H) (k := 18) (Nat.le_of_ble_eq_true rfl) in_X3 q2595 (fun _ h => h) dX3_isSound_10 (fun v10 => ?_)
  refine rk_of (fun _ _ _ _ _ k => lv_iload_n hx hb dX3_isSound_13 rfl (lv_at hl 2 rfl) (lv_iconst (v := 2) hx hb dX3_isSound_14 rfl (lv_iadd hx hb dX3_isSound_15 k))) ?_
  refine rk_iald C dX3_isSound_16 (fun v16 => ?_)
  refine rk_ofs (fun _ _ _ _ _ k => lr_istore_n hx hb dX3_isSound_17 rfl hl (Nat.le_of_ble_eq_true rfl) [0, 1, 2] rfl ⟨rfl, ⟨trivial, ⟨trivial, trivial⟩⟩⟩ k) (fun ls hl => ?_)
  refine rk_of (fun _ _ _ _ _ k => lr_aload_n hx hb dX3_isSound_18 rfl (lv_at hl 2 rfl) k) ?_
  refine rk_get zm_rdR_eq C (hc_X3 H) (k := 18) (Nat.le_of_ble_eq_true rfl) in_X3 q2595 (fun _ h => h) dX3_isSound_19 (fun v19 => ?_)
  refine rk_of (fun _ _ _ _ _ k => lv_iload_n hx hb dX3_isSound_22 rfl (lv_at hl 3 rfl) (lv_iconst (v := 3) hx hb dX3_isSound_23 rfl (lv_iadd hx hb dX3_isSound_24 k))) ?_
  refine rk_iald C dX3_isSound_25 (fun v25 => ?_)
  refine rk_ofs (fun _ _ _ _ _ k => lr_istore hx hb dX3_isSound_26 hl (Nat.le_of_ble_eq_true rfl) [0, 1, 2, 3] rfl ⟨rfl, ⟨trivial, ⟨trivial, ⟨trivial, trivial⟩⟩⟩⟩ k) (fun ls hl => ?_)
  refine rk_of (fun _ _ _ _ _ k => lr_aload_n hx hb dX3_isSound_28 rfl (lv_at hl 3 rfl) k) ?_
  refine rk_get zm_rdR_eq C (hc_X3 H) (k := 18) (Nat.le_of_ble_eq_true rfl) in_X3 q2595 (fun _ h => h) dX3_isSound_29 (fun v29 => ?_)
  refine rk_of (fun _ _ _ _ _ k => lv_iload_n hx hb dX3_isSound_32 rfl (lv_at hl 4 rfl) k) ?_
  refine rk_iald C dX3_isSound_33 (fun v33 => ?_)
  refine rk_case (fun c_34_0 => ?_) (fun c_34_0 => ?_)
  · refine rk_of (fun _ _ _ _ _ k => by rw [c_34_0]; exact lv_tableIn (off := 42) (tgt := 76) hx hb dX3_isSound_34 (by decide) (by decide) rfl (by decide) k) ?_
    refine rk_of (fun _ _ _ _ _ k => lr_aload_n hx hb dX3_isSound_76 rfl (lv_at hl 3 rfl) (lv_iload_n hx hb dX3_isSound_77 rfl (lv_at hl 2 rfl) k)) ?_
    refine rk_callI hX (cl_V (rest := []) (av := [.int v7]) C (hc_X3 H) (ct_X3_isBox H a0 v7) (lw_V q2685 q2687 qs50 q112 q2688) ⟨rfl, hd_X3_isBox⟩ ⟨(Nat.le_of_ble_eq_true rfl), (Nat.le_of_ble_eq_true rfl)⟩ rfl hl.1 rfl (zw_le zw_nil (Nat.le_of_ble_eq_true rfl)) dX3_isSound_78) (fun v78 => ?_)
    refine rk_ite (fun _ _ _ _ _ k1 k2 => lv_if_eq (tgt := 105) hx hb dX3_isSound_81 (by decide) k1 k2) (fun c_81 => ?_) (fun c_81 => ?_)
    · refine rk_of (fun _ _ _ _ _ k => lv_iconst (v := 0) hx hb dX3_isSound_105 rfl k) ?_
      exact rk_top (rf_iret C rfl dX3_isSound_106)
    · refine rk_of (fun _ _ _ _ _ k => lv_iload_n hx hb dX3_isSound_84 rfl (lv_at hl 1 rfl) (lv_iload hx hb dX3_isSound_85 (lv_at hl 0 rfl) (lr_aload_n hx hb dX3_isSound_87 rfl (lv_at hl 3 rfl) k))) ?_
      refine rk_get zm_rdR_eq C (hc_X3 H) (k := 18) (Nat.le_of_ble_eq_true rfl) in_X3 q2595 (fun _ h => h) dX3_isSound_88 (fun v88 => ?_)
      refine rk_of (fun _ _ _ _ _ k => lv_iload_n hx hb dX3_isSound_91 rfl (lv_at hl 4 rfl) (lv_iconst (v := 4) hx hb dX3_isSound_92 rfl (lv_iadd hx hb dX3_isSound_93 k))) ?_
      refine rk_iald C dX3_isSound_94 (fun v94 => ?_)
      refine rk_callI hX (cl_S (rest := []) C (ct_X3_isFor H v16 v25 v94) (lw_S q2689 q2690 q112 q2691) hd_X3_isFor ⟨(Nat.le_of_ble_eq_true rfl), (Nat.le_of_ble_eq_true rfl)⟩ rfl hl.1 rfl (zw_le zw_nil (Nat.le_of_ble_eq_true rfl)) dX3_isSound_95) (fun v95 => ?_)
      refine rk_ite (fun _ _ _ _ _ k1 k2 => lv_if_eq (tgt := 105) hx hb dX3_isSound_98 (by decide) k1 k2) (fun c_98 => ?_) (fun c_98 => ?_)
      · refine rk_of (fun _ _ _ _ _ k => lv_iconst (v := 0) hx hb dX3_isSound_105 rfl k) ?_
        exact rk_top (rf_iret C rfl dX3_isSound_106)
      · refine rk_of (fun _ _ _ _ _ k => lv_iconst (v := 1) hx hb dX3_isSound_101 rfl (lv_goto (tgt := 106) hx hb dX3_isSound_102 (by decide) k)) ?_
        exact rk_top (rf_iret C rfl dX3_isSound_106)
  · refine rk_case (fun c_34_1 => ?_) (fun c_34_1 => ?_)
    · refine rk_of (fun _ _ _ _ _ k => by rw [c_34_1]; exact lv_tableIn (off := 110) (tgt := 144) hx hb dX3_isSound_34 (by decide) (by decide) rfl (by decide) k) ?_
      refine rk_of (fun _ _ _ _ _ k => lr_aload_n hx hb dX3_isSound_144 rfl (lv_at hl 3 rfl) (lv_iload_n hx hb dX3_isSound_145 rfl (lv_at hl 2 rfl) k)) ?_
      refine rk_callI hX (cl_V (rest := []) (av := [.int v7]) C (hc_X3 H) (ct_X3_isLetting H a0 v7) (lw_V q2722 q2724 qs56 q112 q2725) ⟨rfl, hd_X3_isLetting⟩ ⟨(Nat.le_of_ble_eq_true rfl), (Nat.le_of_ble_eq_true rfl)⟩ rfl hl.1 rfl (zw_le zw_nil (Nat.le_of_ble_eq_true rfl)) dX3_isSound_146) (fun v146 => ?_)
      refine rk_grd (fun hg_149 => ?_)
      exact rk_top (rf_iret C (zn_Z hg_149) dX3_isSound_149)
    · refine rk_case (fun c_34_2 => ?_) (fun c_34_2 => ?_)
      · refine rk_of (fun _ _ _ _ _ k => by rw [c_34_2]; exact lv_tableIn (off := 81) (tgt := 115) hx hb dX3_isSound_34 (by decide) (by decide) rfl (by decide) k) ?_
        refine rk_of (fun _ _ _ _ _ k => lr_aload_n hx hb dX3_isSound_115 rfl (lv_at hl 3 rfl) (lv_iload_n hx hb dX3_isSound_116 rfl (lv_at hl 2 rfl) k)) ?_
        refine rk_callI hX (cl_V (rest := []) (av := [.int v7]) C (hc_X3 H) (ct_X3_isLetting H a0 v7) (lw_V q2722 q2724 qs56 q112 q2725) ⟨rfl, hd_X3_isLetting⟩ ⟨(Nat.le_of_ble_eq_true rfl), (Nat.le_of_ble_eq_true rfl)⟩ rfl hl.1 rfl (zw_le zw_nil (Nat.le_of_ble_eq_true rfl)) dX3_isSound_117) (fun v117 => ?_)
        refine rk_ite (fun _ _ _ _ _ k1 k2 => lv_if_eq (tgt := 134) hx hb dX3_isSound_120 (by decide) k1 k2) (fun c_120 => ?_) (fun c_120 => ?_)
        · refine rk_of (fun _ _ _ _ _ k => lv_iconst (v := 0) hx hb dX3_isSound_134 rfl k) ?_
          exact rk_top (rf_iret C rfl dX3_isSound_135)
        · refine rk_of (fun _ _ _ _ _ k => lv_iload_n hx hb dX3_isSound_123 rfl (lv_at hl 1 rfl) k) ?_
          refine rk_callI hX (cl_S (rest := []) C (ct_X3_isBy H v16) (lw_S q2746 q2747 q112 q2748) hd_X3_isBy ⟨(Nat.le_of_ble_eq_true rfl), (Nat.le_of_ble_eq_true rfl)⟩ rfl hl.1 rfl (zw_le zw_nil (Nat.le_of_ble_eq_true rfl)) dX3_isSound_124) (fun v124 => ?_)
          refine rk_ite (fun _ _ _ _ _ k1 k2 => lv_if_eq (tgt := 134) hx hb dX3_isSound_127 (by decide) k1 k2) (fun c_127 => ?_) (fun c_127 => ?_)
          · refine rk_of (fun _ _ _ _ _ k => lv_iconst (v := 0) hx hb dX3_isSound_134 rfl k) ?_
            exact rk_top (rf_iret C rfl dX3_isSound_135)
          · refine rk_of (fun _ _ _ _ _ k => lv_iconst (v := 1) hx hb dX3_isSound_130 rfl (lv_goto (tgt := 135) hx hb dX3_isSound_131 (by decide) k)) ?_
            exact rk_top (rf_iret C rfl dX3_isSound_135)
      · refine rk_case (fun c_34_3 => ?_) (fun c_34_3 => ?_)
        · refine rk_of (fun _ _ _ _ _ k => by rw [c_34_3]; exact lv_tableIn (off := 110) (tgt := 144) hx hb dX3_isSound_34 (by decide) (by decide) rfl (by decide) k) ?_
          refine rk_of (fun _ _ _ _ _ k => lr_aload_n hx hb dX3_isSound_144 rfl (lv_at hl 3 rfl) (lv_iload_n hx hb dX3_isSound_145 rfl (lv_at hl 2 rfl) k)) ?_
          refine rk_callI hX (cl_V (rest := []) (av := [.int v7]) C (hc_X3 H) (ct_X3_isLetting H a0 v7) (lw_V q2722 q2724 qs56 q112 q2725) ⟨rfl, hd_X3_isLetting⟩ ⟨(Nat.le_of_ble_eq_true rfl), (Nat.le_of_ble_eq_true rfl)⟩ rfl hl.1 rfl (zw_le zw_nil (Nat.le_of_ble_eq_true rfl)) dX3_isSound_146) (fun v146 => ?_)
          refine rk_grd (fun hg_149 => ?_)
          exact rk_top (rf_iret C (zn_Z hg_149) dX3_isSound_149)
        · refine rk_case (fun c_34_4 => ?_) (fun c_34_4 => ?_)
          · refine rk_of (fun _ _ _ _ _ k => by rw [c_34_4]; exact lv_tableIn (off := 73) (tgt := 107) hx hb dX3_isSound_34 (by decide) (by decide) rfl (by decide) k) ?_
            refine rk_of (fun _ _ _ _ _ k => lv_iload_n hx hb dX3_isSound_107 rfl (lv_at hl 2 rfl) (lv_iload_n hx hb dX3_isSound_108 rfl (lv_at hl 1 rfl) (lv_iload hx hb dX3_isSound_109 (lv_at hl 0 rfl) k))) ?_
            refine rk_callI hX (cl_S (rest := []) C (ct_X3_isFor H v7 v16 v25) (lw_S q2689 q2690 q112 q2691) hd_X3_isFor ⟨(Nat.le_of_ble_eq_true rfl), (Nat.le_of_ble_eq_true rfl)⟩ rfl hl.1 rfl (zw_le zw_nil (Nat.le_of_ble_eq_true rfl)) dX3_isSound_111) (fun v111 => ?_)
            refine rk_grd (fun hg_114 => ?_)
            exact rk_top (rf_iret C (zn_Z hg_114) dX3_isSound_114)
          · refine rk_case (fun c_34_5 => ?_) (fun c_34_5 => ?_)
            · refine rk_of (fun _ _ _ _ _ k => by rw [c_34_5]; exact lv_tableIn (off := 102) (tgt := 136) hx hb dX3_isSound_34 (by decide) (by decide) rfl (by decide) k) ?_
              refine rk_of (fun _ _ _ _ _ k => lr_aload_n hx hb dX3_isSound_136 rfl (lv_at hl 3 rfl) (lv_iload_n hx hb dX3_isSound_137 rfl (lv_at hl 2 rfl) k)) ?_
              refine rk_callI hX (cl_V (rest := []) (av := [.int v7]) C (hc_X3 H) (ct_X3_isWish H a0 v7) (lw_V q2802 q2804 qs66 q112 q2805) ⟨rfl, hd_X3_isWish⟩ ⟨(Nat.le_of_ble_eq_true rfl), (Nat.le_of_ble_eq_true rfl)⟩ rfl hl.1 rfl (zw_le zw_nil (Nat.le_of_ble_eq_true rfl)) dX3_isSound_138) (fun v138 => ?_)
              refine rk_grd (fun hg_141 => ?_)
              exact rk_top (rf_iret C (zn_Z hg_141) dX3_isSound_141)
            · refine rk_case (fun c_34_6 => ?_) (fun c_34_6 => ?_)
              · refine rk_of (fun _ _ _ _ _ k => by rw [c_34_6]; exact lv_tableIn (off := 108) (tgt := 142) hx hb dX3_isSound_34 (by decide) (by decide) rfl (by decide) k) ?_
                refine rk_of (fun _ _ _ _ _ k => lv_iconst (v := 1) hx hb dX3_isSound_142 rfl k) ?_
                exact rk_top (rf_iret C rfl dX3_isSound_143)
              · have q_0 : (v33).toInt ≠ 0 := fun q => c_34_0 (zs_eq q rfl)
                have q_1 : (v33).toInt ≠ 1 := fun q => c_34_1 (zs_eq q rfl)
                have q_2 : (v33).toInt ≠ 2 := fun q => c_34_2 (zs_eq q rfl)
                have q_3 : (v33).toInt ≠ 3 := fun q => c_34_3 (zs_eq q rfl)
                have q_4 : (v33).toInt ≠ 4 := fun q => c_34_4 (zs_eq q rfl)
                have q_5 : (v33).toInt ≠ 5 := fun q => c_34_5 (zs_eq q rfl)
                have q_6 : (v33).toInt ≠ 6 := fun q => c_34_6 (zs_eq q rfl)
                refine rk_of (fun _ _ _ _ _ k => lv_tableOut (tgt := 144) hx hb dX3_isSound_34 (by omega) (by decide) k) ?_
                refine rk_of (fun _ _ _ _ _ k => lr_aload_n hx hb dX3_isSound_144 rfl (lv_at hl 3 rfl) (lv_iload_n hx hb dX3_isSound_145 rfl (lv_at hl 2 rfl) k)) ?_
                refine rk_callI hX (cl_V (rest := []) (av := [.int v7]) C (hc_X3 H) (ct_X3_isLetting H a0 v7) (lw_V q2722 q2724 qs56 q112 q2725) ⟨rfl, hd_X3_isLetting⟩ ⟨(Nat.le_of_ble_eq_true rfl), (Nat.le_of_ble_eq_true rfl)⟩ rfl hl.1 rfl (zw_le zw_nil (Nat.le_of_ble_eq_true rfl)) dX3_isSound_146) (fun v146 => ?_)
                refine rk_grd (fun hg_149 => ?_)
                exact rk_top (rf_iret C (zn_Z hg_149) dX3_isSound_149)
theorem hd_X3_isSpan : yX3_isSpan.cls ≠ "java/lang/invoke/MethodHandle" ∧ yX3_isSpan.cls ≠ "java/lang/invoke/VarHandle" ∧ (parseMethodDescriptor yX3_isSpan.desc).map (fun d => d.parameters.length) = some 1 := by decide +kernel
noncomputable def fn_X3_isSpan (K : zm_K) (a0 : zm_R) (a1 : Int32) : zm_M Int32 :=
  zm_bnd (zm_bnd (zm_is a0 20) fun _ => fn_X3_isSign K a0 32) fun v3 =>
  if v3 = 0 then
    zm_ret 0
  else
    zm_bnd (zm_bnd (zm_is a0 20) fun _ => fn_X3_isNumber K a0 3 a1) fun v12 =>
    if v12 = 0 then
      zm_ret 0
    else
      zm_bnd (zm_bnd (zm_is a0 20) fun _ => fn_X3_isSign K a0 45) fun v21 =>
      if v21 = 0 then
        zm_ret 0
      else
        zm_bnd (zm_bnd (zm_is a0 20) fun _ => fn_X3_isNumber K a0 3 (a1 + 1)) fun v32 =>
        if v32 = 0 then
          zm_ret 0
        else
          zm_ret 1
theorem ct_X3_isSpan {l : Launch} {Ω : zm_W} {K : zm_K} (H : zm_H Ω K) (a0 : zm_R) (a1 : Int32) : zm_Ct l Ω yX3_isSpan (ws_ yX3_isSpan cX3_isSpan 2 (Option.some Jvm.ClassFile.FieldType.boolean)) 3 110 [va_rf a0, .int a1] zm_tvI (fn_X3_isSpan K a0 a1) := by
  refine zm_ct H.1 (by decide +kernel) (zl_le (zl_R (zl_I zl_nil)) (Nat.le_of_ble_eq_true rfl)) ?_
  intro p e R s m args below meth c n0 k0 C hX ls hl
  have hx := C.1
  have hb := C.2.1
  simp only [zg_I, zg_R, zg_nil] at hl
  have hl : lv_has ls 2 [(0, va_rf a0), (1, .int a1)] := hl
  refine rk_rf ?_
  unfold fn_X3_isSpan
  refine rk_of (fun _ _ _ _ _ k => lr_aload_n hx hb dX3_isSpan_0 rfl (lv_at hl 0 rfl) (lv_bipush (v := 32) hx hb dX3_isSpan_1 rfl k)) ?_
  refine rk_callI hX (cl_V (rest := []) (av := [.int 32]) C (hc_X3 H) (ct_X3_isSign H a0 32) (lw_V q3018 q3020 qs93 q112 q3021) ⟨rfl, hd_X3_isSign⟩ ⟨(Nat.le_of_ble_eq_true rfl), (Nat.le_of_ble_eq_true rfl)⟩ rfl hl.1 rfl (zw_le zw_nil (Nat.le_of_ble_eq_true rfl)) dX3_isSpan_3) (fun v3 => ?_)
  refine rk_ite (fun _ _ _ _ _ k1 k2 => lv_if_eq (tgt := 42) hx hb dX3_isSpan_6 (by decide) k1 k2) (fun c_6 => ?_) (fun c_6 => ?_)
  · refine rk_of (fun _ _ _ _ _ k => lv_iconst (v := 0) hx hb dX3_isSpan_42 rfl k) ?_
    exact rk_top (rf_iret C rfl dX3_isSpan_43)
  · refine rk_of (fun _ _ _ _ _ k => lr_aload_n hx hb dX3_isSpan_9 rfl (lv_at hl 0 rfl) (lv_iconst (v := 3) hx hb dX3_isSpan_10 rfl (lv_iload_n hx hb dX3_isSpan_11 rfl (lv_at hl 1 rfl) k))) ?_
    refine rk_callI hX (cl_V (rest := []) (av := [.int 3, .int a1]) C (hc_X3 H) (ct_X3_isNumber H a0 3 a1) (lw_V q3022 q3024 qs94 q112 q3025) ⟨rfl, hd_X3_isNumber⟩ ⟨(Nat.le_of_ble_eq_true rfl), (Nat.le_of_ble_eq_true rfl)⟩ rfl hl.1 rfl (zw_le zw_nil (Nat.le_of_ble_eq_true rfl)) dX3_isSpan_12) (fun v12 => ?_)
    refine rk_ite (fun _ _ _ _ _ k1 k2 => lv_if_eq (tgt := 42) hx hb dX3_isSpan_15 (by decide) k1 k2) (fun c_15 => ?_) (fun c_15 => ?_)
    · refine rk_of (fun _ _ _ _ _ k => lv_iconst (v := 0) hx hb dX3_isSpan_42 rfl k) ?_
      exact rk_top (rf_iret C rfl dX3_isSpan_43)
    · refine rk_of (fun _ _ _ _ _ k => lr_aload_n hx hb dX3_isSpan_18 rfl (lv_at hl 0 rfl) (lv_bipush (v := 45) hx hb dX3_isSpan_19 rfl k)) ?_
      refine rk_callI hX (cl_V (rest := []) (av := [.int 45]) C (hc_X3 H) (ct_X3_isSign H a0 45) (lw_V q3018 q3020 qs93 q112 q3021) ⟨rfl, hd_X3_isSign⟩ ⟨(Nat.le_of_ble_eq_true rfl), (Nat.le_of_ble_eq_true rfl)⟩ rfl hl.1 rfl (zw_le zw_nil (Nat.le_of_ble_eq_true rfl)) dX3_isSpan_21) (fun v21 => ?_)
      refine rk_ite (fun _ _ _ _ _ k1 k2 => lv_if_eq (tgt := 42) hx hb dX3_isSpan_24 (by decide) k1 k2) (fun c_24 => ?_) (fun c_24 => ?_)
      · refine rk_of (fun _ _ _ _ _ k => lv_iconst (v := 0) hx hb dX3_isSpan_42 rfl k) ?_
        exact rk_top (rf_iret C rfl dX3_isSpan_43)
      · refine rk_of (fun _ _ _ _ _ k => lr_aload_n hx hb dX3_isSpan_27 rfl (lv_at hl 0 rfl) (lv_iconst (v := 3) hx hb dX3_isSpan_28 rfl (lv_iload_n hx hb dX3_isSpan_29 rfl (lv_at hl 1 rfl) (lv_iconst (v := 1) hx hb dX3_isSpan_30 rfl (lv_iadd hx hb dX3_isSpan_31 k))))) ?_
        refine rk_callI hX (cl_V (rest := []) (av := [.int 3, .int (a1 + 1)]) C (hc_X3 H) (ct_X3_isNumber H a0 3 (a1 + 1)) (lw_V q3022 q3024 qs94 q112 q3025) ⟨rfl, hd_X3_isNumber⟩ ⟨(Nat.le_of_ble_eq_true rfl), (Nat.le_of_ble_eq_true rfl)⟩ rfl hl.1 rfl (zw_le zw_nil (Nat.le_of_ble_eq_true rfl)) dX3_isSpan_32) (fun v32 => ?_)
        refine rk_ite (fun _ _ _ _ _ k1 k2 => lv_if_eq (tgt := 42) hx hb dX3_isSpan_35 (by decide) k1 k2) (fun c_35 => ?_) (fun c_35 => ?_)
        · refine rk_of (fun _ _ _ _ _ k => lv_iconst (v := 0) hx hb dX3_isSpan_42 rfl k) ?_
          exact rk_top (rf_iret C rfl dX3_isSpan_43)
        · refine rk_of (fun _ _ _ _ _ k => lv_iconst (v := 1) hx hb dX3_isSpan_38 rfl (lv_goto (tgt := 43) hx hb dX3_isSpan_39 (by decide) k)) ?_
          exact rk_top (rf_iret C rfl dX3_isSpan_43)
theorem hd_X3_wordOf : yX3_wordOf.cls ≠ "java/lang/invoke/MethodHandle" ∧ yX3_wordOf.cls ≠ "java/lang/invoke/VarHandle" ∧ (parseMethodDescriptor yX3_wordOf.desc).map (fun d => d.parameters.length) = some 1 := by decide +kernel
noncomputable def fn_X3_wordOf (K : zm_K) (a0 : Int32) : zm_M zm_R :=
  if a0 = 0 then
    zm_ret (K.2 18)
  else
    if a0 = 1 then
      zm_ret (K.2 19)
    else
      if a0 = 2 then
        zm_ret (K.2 20)
      else
        if a0 = 3 then
          zm_ret (K.2 21)
        else
          if a0 = 4 then
            zm_ret (K.2 22)
          else
            if a0 = 5 then
              zm_ret (K.2 23)
            else
              zm_ret (K.2 24)
theorem ct_X3_wordOf {l : Launch} {Ω : zm_W} {K : zm_K} (H : zm_H Ω K) (a0 : Int32) : zm_Ct l Ω yX3_wordOf (ws_ yX3_wordOf cX3_wordOf 1 (Option.some (Jvm.ClassFile.FieldType.object "java/lang/String"))) 1 64 [.int a0] zm_tvR (fn_X3_wordOf K a0) := by
  refine zm_ct H.1 (by decide +kernel) (zl_le (zl_I zl_nil) (Nat.le_of_ble_eq_true rfl)) ?_
  intro p e R s m args below meth c n0 k0 C hX ls hl
  have hx := C.1
  have hb := C.2.1
  simp only [zg_I, zg_nil] at hl
  have hl : lv_has ls 1 [(0, .int a0)] := hl
  refine rk_rf ?_
  unfold fn_X3_wordOf
  refine rk_of (fun _ _ _ _ _ k => lv_iload_n hx hb dX3_wordOf_0 rfl (lv_at hl 0 rfl) k) ?_
  refine rk_case (fun c_1_0 => ?_) (fun c_1_0 => ?_)
  · refine rk_of (fun _ _ _ _ _ k => by rw [c_1_0]; exact lv_tableIn (off := 39) (tgt := 40) hx hb dX3_wordOf_1 (by decide) (by decide) rfl (by decide) k) ?_
    refine rk_of (fun _ _ _ _ _ k => zs_ldc C (zh_s18 H) dX3_wordOf_40 k) ?_
    exact rk_top (rf_aret C (Or.inl ⟨_, rfl⟩) dX3_wordOf_42)
  · refine rk_case (fun c_1_1 => ?_) (fun c_1_1 => ?_)
    · refine rk_of (fun _ _ _ _ _ k => by rw [c_1_1]; exact lv_tableIn (off := 42) (tgt := 43) hx hb dX3_wordOf_1 (by decide) (by decide) rfl (by decide) k) ?_
      refine rk_of (fun _ _ _ _ _ k => zs_ldc C (zh_s19 H) dX3_wordOf_43 k) ?_
      exact rk_top (rf_aret C (Or.inl ⟨_, rfl⟩) dX3_wordOf_45)
    · refine rk_case (fun c_1_2 => ?_) (fun c_1_2 => ?_)
      · refine rk_of (fun _ _ _ _ _ k => by rw [c_1_2]; exact lv_tableIn (off := 45) (tgt := 46) hx hb dX3_wordOf_1 (by decide) (by decide) rfl (by decide) k) ?_
        refine rk_of (fun _ _ _ _ _ k => zs_ldc C (zh_s20 H) dX3_wordOf_46 k) ?_
        exact rk_top (rf_aret C (Or.inl ⟨_, rfl⟩) dX3_wordOf_48)
      · refine rk_case (fun c_1_3 => ?_) (fun c_1_3 => ?_)
        · refine rk_of (fun _ _ _ _ _ k => by rw [c_1_3]; exact lv_tableIn (off := 48) (tgt := 49) hx hb dX3_wordOf_1 (by decide) (by decide) rfl (by decide) k) ?_
          refine rk_of (fun _ _ _ _ _ k => zs_ldc C (zh_s21 H) dX3_wordOf_49 k) ?_
          exact rk_top (rf_aret C (Or.inl ⟨_, rfl⟩) dX3_wordOf_51)
        · refine rk_case (fun c_1_4 => ?_) (fun c_1_4 => ?_)
          · refine rk_of (fun _ _ _ _ _ k => by rw [c_1_4]; exact lv_tableIn (off := 51) (tgt := 52) hx hb dX3_wordOf_1 (by decide) (by decide) rfl (by decide) k) ?_
            refine rk_of (fun _ _ _ _ _ k => zs_ldcw C (zh_s22 H) dX3_wordOf_52 k) ?_
            exact rk_top (rf_aret C (Or.inl ⟨_, rfl⟩) dX3_wordOf_55)
          · refine rk_case (fun c_1_5 => ?_) (fun c_1_5 => ?_)
            · refine rk_of (fun _ _ _ _ _ k => by rw [c_1_5]; exact lv_tableIn (off := 55) (tgt := 56) hx hb dX3_wordOf_1 (by decide) (by decide) rfl (by decide) k) ?_
              refine rk_of (fun _ _ _ _ _ k => zs_ldcw C (zh_s23 H) dX3_wordOf_56 k) ?_
              exact rk_top (rf_aret C (Or.inl ⟨_, rfl⟩) dX3_wordOf_59)
            · have q_0 : (a0).toInt ≠ 0 := fun q => c_1_0 (zs_eq q rfl)
              have q_1 : (a0).toInt ≠ 1 := fun q => c_1_1 (zs_eq q rfl)
              have q_2 : (a0).toInt ≠ 2 := fun q => c_1_2 (zs_eq q rfl)
              have q_3 : (a0).toInt ≠ 3 := fun q => c_1_3 (zs_eq q rfl)
              have q_4 : (a0).toInt ≠ 4 := fun q => c_1_4 (zs_eq q rfl)
              have q_5 : (a0).toInt ≠ 5 := fun q => c_1_5 (zs_eq q rfl)
              refine rk_of (fun _ _ _ _ _ k => lv_tableOut (tgt := 60) hx hb dX3_wordOf_1 (by omega) (by decide) k) ?_
              refine rk_of (fun _ _ _ _ _ k => zs_ldcw C (zh_s24 H) dX3_wordOf_60 k) ?_
              exact rk_top (rf_aret C (Or.inl ⟨_, rfl⟩) dX3_wordOf_63)
theorem hd_J7_isLatin1 : yJ7_isLatin1.cls ≠ "java/lang/invoke/MethodHandle" ∧ yJ7_isLatin1.cls ≠ "java/lang/invoke/VarHandle" ∧ (parseMethodDescriptor yJ7_isLatin1.desc).map (fun d => d.parameters.length) = some 0 := by decide +kernel
noncomputable def fn_J7_isLatin1 (K : zm_K) (a0 : zm_R) : zm_M Int32 :=
  if (1 : Int32) = 0 then
    zm_ret 0
  else
    zm_bnd (zm_getI a0 3 1) fun v7 =>
    if v7 = 0 then
      zm_ret 1
    else
      zm_ret 0
theorem ct_J7_isLatin1 {l : Launch} {Ω : zm_W} {K : zm_K} (H : zm_H Ω K) (a0 : zm_R) : zm_Ct l Ω yJ7_isLatin1 (ws_ yJ7_isLatin1 cJ7_isLatin1 1 (Option.some Jvm.ClassFile.FieldType.boolean)) 1 64 [va_rf a0] zm_tvI (fn_J7_isLatin1 K a0) := by
  refine zm_ct H.1 (by decide +kernel) (zl_le (zl_R zl_nil) (Nat.le_of_ble_eq_true rfl)) ?_
  intro p e R s m args below meth c n0 k0 C hX ls hl
  have hx := C.1
  have hb := C.2.1
  simp only [zg_R, zg_nil] at hl
  have hl : lv_has ls 1 [(0, va_rf a0)] := hl
  refine rk_rf ?_
  unfold fn_J7_isLatin1
  refine rk_gets C (zh_it1 H) q498 (fun _ h => h) dJ7_isLatin1_0 ?_
  refine rk_ite (fun _ _ _ _ _ k1 k2 => lv_if_eq (tgt := 17) hx hb dJ7_isLatin1_3 (by decide) k1 k2) (fun c_3 => ?_) (fun c_3 => ?_)
  · refine rk_of (fun _ _ _ _ _ k => lv_iconst (v := 0) hx hb dJ7_isLatin1_17 rfl k) ?_
    exact rk_top (rf_iret C rfl dJ7_isLatin1_18)
  · refine rk_of (fun _ _ _ _ _ k => lr_aload_n hx hb dJ7_isLatin1_6 rfl (lv_at hl 0 rfl) k) ?_
    refine rk_get zm_rdI_eq C (hc_J7 H) (k := 1) (Nat.le_of_ble_eq_true rfl) in_J7 q649 (fun _ h => h) dJ7_isLatin1_7 (fun v7 => ?_)
    refine rk_ite (fun _ _ _ _ _ k1 k2 => lv_if_ne (tgt := 17) hx hb dJ7_isLatin1_10 (by decide) k2 k1) (fun c_10 => ?_) (fun c_10 => ?_)
    · refine rk_of (fun _ _ _ _ _ k => lv_iconst (v := 1) hx hb dJ7_isLatin1_13 rfl (lv_goto (tgt := 18) hx hb dJ7_isLatin1_14 (by decide) k)) ?_
      exact rk_top (rf_iret C rfl dJ7_isLatin1_18)
    · refine rk_of (fun _ _ _ _ _ k => lv_iconst (v := 0) hx hb dJ7_isLatin1_17 rfl k) ?_
      exact rk_top (rf_iret C rfl dJ7_isLatin1_18)
theorem hd_J20_checkIndex : yJ20_checkIndex.cls ≠ "java/lang/invoke/MethodHandle" ∧ yJ20_checkIndex.cls ≠ "java/lang/invoke/VarHandle" ∧ (parseMethodDescriptor yJ20_checkIndex.desc).map (fun d => d.parameters.length) = some 3 := by decide +kernel
noncomputable def fn_J20_checkIndex (K : zm_K) (a0 : Int32) (a1 : Int32) (a2 : zm_R) : zm_M Int32 :=
  zm_bnx (β := Unit) (
      if a0 < 0 then
        zm_ret (Sum.inl ())
      else
        if a0 < a1 then
          zm_ret (Sum.inr a0)
        else
          zm_ret (Sum.inl ())
    ) fun (_ : Unit) =>
  zm_fl
theorem ct_J20_checkIndex {l : Launch} {Ω : zm_W} {K : zm_K} (H : zm_H Ω K) (a0 : Int32) (a1 : Int32) (a2 : zm_R) : zm_Ct l Ω yJ20_checkIndex (ws_ yJ20_checkIndex cJ20_checkIndex 3 (Option.some Jvm.ClassFile.FieldType.int)) 1 64 [.int a0, .int a1, va_rf a2] zm_tvI (fn_J20_checkIndex K a0 a1 a2) := by
  refine zm_ct H.1 (by decide +kernel) (zl_le (zl_I (zl_I (zl_R zl_nil))) (Nat.le_of_ble_eq_true rfl)) ?_
  intro p e R s m args below meth c n0 k0 C hX ls hl
  have hx := C.1
  have hb := C.2.1
  simp only [zg_I, zg_R, zg_nil] at hl
  have hl : lv_has ls 3 [(0, .int a0), (1, .int a1), (2, va_rf a2)] := hl
  refine rk_rf ?_
  unfold fn_J20_checkIndex
  refine rk_of (fun _ _ _ _ _ k => lv_iload_n hx hb dJ20_checkIndex_0 rfl (lv_at hl 0 rfl) k) ?_
  refine rk_joinx (β := Unit) (fun (b9 : Unit) ls => lv_has ls 3 [(0, .int a0), (1, .int a1), (2, va_rf a2)]) (fun (b9 : Unit) ls => F0 m 9 ls []) (fun b9 ls hl => ?_) (fun hJ9 => ?_)
  · refine rk_of (fun _ _ _ _ _ k => lr_aload_n hx hb dJ20_checkIndex_9 rfl (lv_at hl 2 rfl) (lv_iload_n hx hb dJ20_checkIndex_10 rfl (lv_at hl 0 rfl) (lv_iload_n hx hb dJ20_checkIndex_11 rfl (lv_at hl 1 rfl) k))) ?_
    exact rk_fl
  · refine rk_ite (fun _ _ _ _ _ k1 k2 => lv_if_lt (tgt := 9) hx hb dJ20_checkIndex_1 (by decide) k1 k2) (fun c_1 => ?_) (fun c_1 => ?_)
    · exact hJ9 () ls (lv_sub hl [0, 1, 2] rfl)
    · refine rk_ite (fun _ _ _ _ _ k1 k2 => lv_iload_n hx hb dJ20_checkIndex_4 rfl (lv_at hl 0 rfl) (lv_iload_n hx hb dJ20_checkIndex_5 rfl (lv_at hl 1 rfl) (lv_icmp_lt (tgt := 16) hx hb dJ20_checkIndex_6 (by decide) k1 k2))) (fun c_6 => ?_) (fun c_6 => ?_)
      · refine rk_of (fun _ _ _ _ _ k => lv_iload_n hx hb dJ20_checkIndex_16 rfl (lv_at hl 0 rfl) k) ?_
        refine rk_inr ?_
        exact rk_top (rf_iret C rfl dJ20_checkIndex_17)
      · exact hJ9 () ls (lv_sub hl [0, 1, 2] rfl)
theorem hd_J7_checkIndex : yJ7_checkIndex.cls ≠ "java/lang/invoke/MethodHandle" ∧ yJ7_checkIndex.cls ≠ "java/lang/invoke/VarHandle" ∧ (parseMethodDescriptor yJ7_checkIndex.desc).map (fun d => d.parameters.length) = some 2 := by decide +kernel
noncomputable def fn_J7_checkIndex (K : zm_K) (a0 : Int32) (a1 : Int32) : zm_M Unit :=
  zm_bnd (fn_J20_checkIndex K a0 a1 (K.2 7)) fun v5 =>
  zm_ret ()
theorem ct_J7_checkIndex {l : Launch} {Ω : zm_W} {K : zm_K} (H : zm_H Ω K) (a0 : Int32) (a1 : Int32) : zm_Ct l Ω yJ7_checkIndex (ws_ yJ7_checkIndex cJ7_checkIndex 2 (Option.none : Option Jvm.ClassFile.FieldType)) 2 86 [.int a0, .int a1] zm_tvV (fn_J7_checkIndex K a0 a1) := by
  refine zm_ct H.1 (by decide +kernel) (zl_le (zl_I (zl_I zl_nil)) (Nat.le_of_ble_eq_true rfl)) ?_
  intro p e R s m args below meth c n0 k0 C hX ls hl
  have hx := C.1
  have hb := C.2.1
  simp only [zg_I, zg_nil] at hl
  have hl : lv_has ls 2 [(0, .int a0), (1, .int a1)] := hl
  refine rk_rf ?_
  unfold fn_J7_checkIndex
  refine rk_of (fun _ _ _ _ _ k => lv_iload_n hx hb dJ7_checkIndex_0 rfl (lv_at hl 0 rfl) (lv_iload_n hx hb dJ7_checkIndex_1 rfl (lv_at hl 1 rfl) k)) ?_
  refine rk_gets C (zh_st7 H) q476 (fun _ h => h) dJ7_checkIndex_2 ?_
  refine rk_callI hX (cl_S (rest := []) C (ct_J20_checkIndex H a0 a1 (K.2 7)) (lw_S q1963 q853 q127 q854) hd_J20_checkIndex ⟨(Nat.le_of_ble_eq_true rfl), (Nat.le_of_ble_eq_true rfl)⟩ rfl hl.1 rfl (zw_le zw_nil (Nat.le_of_ble_eq_true rfl)) dJ7_checkIndex_5) (fun v5 => ?_)
  refine rk_of (fun _ _ _ _ _ k => lv_pop hx hb dJ7_checkIndex_8 rfl k) ?_
  exact rk_top (rf_vret C dJ7_checkIndex_9)
theorem hd_J21_charAt : yJ21_charAt.cls ≠ "java/lang/invoke/MethodHandle" ∧ yJ21_charAt.cls ≠ "java/lang/invoke/VarHandle" ∧ (parseMethodDescriptor yJ21_charAt.desc).map (fun d => d.parameters.length) = some 2 := by decide +kernel
noncomputable def fn_J21_charAt (K : zm_K) (a0 : zm_R) (a1 : Int32) : zm_M Int32 :=
  zm_bnd (zm_alen a0) fun v2 =>
  zm_bnd (fn_J7_checkIndex K a1 v2) fun _ =>
  zm_bnd (zm_aldI .byte a0 a1) fun v8 =>
  zm_bnd (zm_grd (0 ≤ (((v8 &&& 255).toUInt32 % 65536).toInt32) ∧ (((v8 &&& 255).toUInt32 % 65536).toInt32) ≤ 65535)) fun _ =>
  zm_ret (((v8 &&& 255).toUInt32 % 65536).toInt32)
theorem ct_J21_charAt {l : Launch} {Ω : zm_W} {K : zm_K} (H : zm_H Ω K) (a0 : zm_R) (a1 : Int32) : zm_Ct l Ω yJ21_charAt (ws_ yJ21_charAt cJ21_charAt 2 (Option.some Jvm.ClassFile.FieldType.char)) 3 107 [va_rf a0, .int a1] zm_tvI (fn_J21_charAt K a0 a1) := by
  refine zm_ct H.1 (by decide +kernel) (zl_le (zl_R (zl_I zl_nil)) (Nat.le_of_ble_eq_true rfl)) ?_
  intro p e R s m args below meth c n0 k0 C hX ls hl
  have hx := C.1
  have hb := C.2.1
  simp only [zg_I, zg_R, zg_nil] at hl
  have hl : lv_has ls 2 [(0, va_rf a0), (1, .int a1)] := hl
  refine rk_rf ?_
  unfold fn_J21_charAt
  refine rk_of (fun _ _ _ _ _ k => lv_iload_n hx hb dJ21_charAt_0 rfl (lv_at hl 1 rfl) (lr_aload_n hx hb dJ21_charAt_1 rfl (lv_at hl 0 rfl) k)) ?_
  refine rk_alen C dJ21_charAt_2 (fun v2 => ?_)
  refine rk_callV hX (cl_S (rest := []) C (ct_J7_checkIndex H a1 v2) (lw_S q2033 q1961 q110 q1962) hd_J7_checkIndex ⟨(Nat.le_of_ble_eq_true rfl), (Nat.le_of_ble_eq_true rfl)⟩ rfl hl.1 rfl (zw_le zw_nil (Nat.le_of_ble_eq_true rfl)) dJ21_charAt_3) (fun _ => ?_)
  refine rk_of (fun _ _ _ _ _ k => lr_aload_n hx hb dJ21_charAt_6 rfl (lv_at hl 0 rfl) (lv_iload_n hx hb dJ21_charAt_7 rfl (lv_at hl 1 rfl) k)) ?_
  refine rk_bald C dJ21_charAt_8 (fun v8 => ?_)
  refine rk_of (fun _ _ _ _ _ k => lv_sipush (v := 255) hx hb dJ21_charAt_9 rfl (lv_iand hx hb dJ21_charAt_12 (lv_i2c hx hb dJ21_charAt_13 rfl k))) ?_
  refine rk_grd (fun hg_14 => ?_)
  exact rk_top (rf_iret C (zn_C hg_14) dJ21_charAt_14)
theorem hd_J7_charAt : yJ7_charAt.cls ≠ "java/lang/invoke/MethodHandle" ∧ yJ7_charAt.cls ≠ "java/lang/invoke/VarHandle" ∧ (parseMethodDescriptor yJ7_charAt.desc).map (fun d => d.parameters.length) = some 1 := by decide +kernel
noncomputable def fn_J7_charAt (K : zm_K) (a0 : zm_R) (a1 : Int32) : zm_M Int32 :=
  zm_bnd (zm_bnd (zm_is a0 3) fun _ => fn_J7_isLatin1 K a0) fun v1 =>
  if v1 = 0 then
    zm_bnd (zm_getR a0 3 0) fun v17 =>
    zm_fl
  else
    zm_bnd (zm_getR a0 3 0) fun v8 =>
    zm_bnd (fn_J21_charAt K v8 a1) fun v12 =>
    zm_bnd (zm_grd (0 ≤ v12 ∧ v12 ≤ 65535)) fun _ =>
    zm_ret v12
theorem ct_J7_charAt {l : Launch} {Ω : zm_W} {K : zm_K} (H : zm_H Ω K) (a0 : zm_R) (a1 : Int32) : zm_Ct l Ω yJ7_charAt (ws_ yJ7_charAt cJ7_charAt 2 (Option.some Jvm.ClassFile.FieldType.char)) 4 128 [va_rf a0, .int a1] zm_tvI (fn_J7_charAt K a0 a1) := by
  refine zm_ct H.1 (by decide +kernel) (zl_le (zl_R (zl_I zl_nil)) (Nat.le_of_ble_eq_true rfl)) ?_
  intro p e R s m args below meth c n0 k0 C hX ls hl
  have hx := C.1
  have hb := C.2.1
  simp only [zg_I, zg_R, zg_nil] at hl
  have hl : lv_has ls 2 [(0, va_rf a0), (1, .int a1)] := hl
  refine rk_rf ?_
  unfold fn_J7_charAt
  refine rk_of (fun _ _ _ _ _ k => lr_aload_n hx hb dJ7_charAt_0 rfl (lv_at hl 0 rfl) k) ?_
  refine rk_callI hX (cl_V (rest := []) (av := []) C (hc_J7 H) (ct_J7_isLatin1 H a0) (lw_V q2026 q2027 q2028 q110 q2029) ⟨rfl, hd_J7_isLatin1⟩ ⟨(Nat.le_of_ble_eq_true rfl), (Nat.le_of_ble_eq_true rfl)⟩ rfl hl.1 rfl (zw_le zw_nil (Nat.le_of_ble_eq_true rfl)) dJ7_charAt_1) (fun v1 => ?_)
  refine rk_ite (fun _ _ _ _ _ k1 k2 => lv_if_eq (tgt := 16) hx hb dJ7_charAt_4 (by decide) k1 k2) (fun c_4 => ?_) (fun c_4 => ?_)
  · refine rk_of (fun _ _ _ _ _ k => lr_aload_n hx hb dJ7_charAt_16 rfl (lv_at hl 0 rfl) k) ?_
    refine rk_get zm_rdR_eq C (hc_J7 H) (k := 0) (Nat.le_of_ble_eq_true rfl) in_J7 q648 (fun _ h => h) dJ7_charAt_17 (fun v17 => ?_)
    refine rk_of (fun _ _ _ _ _ k => lv_iload_n hx hb dJ7_charAt_20 rfl (lv_at hl 1 rfl) k) ?_
    exact rk_fl
  · refine rk_of (fun _ _ _ _ _ k => lr_aload_n hx hb dJ7_charAt_7 rfl (lv_at hl 0 rfl) k) ?_
    refine rk_get zm_rdR_eq C (hc_J7 H) (k := 0) (Nat.le_of_ble_eq_true rfl) in_J7 q648 (fun _ h => h) dJ7_charAt_8 (fun v8 => ?_)
    refine rk_of (fun _ _ _ _ _ k => lv_iload_n hx hb dJ7_charAt_11 rfl (lv_at hl 1 rfl) k) ?_
    refine rk_callI hX (cl_S (rest := []) C (ct_J21_charAt H v8 a1) (lw_S q2030 q2031 q128 q2032) hd_J21_charAt ⟨(Nat.le_of_ble_eq_true rfl), (Nat.le_of_ble_eq_true rfl)⟩ rfl hl.1 rfl (zw_le zw_nil (Nat.le_of_ble_eq_true rfl)) dJ7_charAt_12) (fun v12 => ?_)
    refine rk_grd (fun hg_15 => ?_)
    exact rk_top (rf_iret C (zn_C hg_15) dJ7_charAt_15)
theorem hd_J7_coder : yJ7_coder.cls ≠ "java/lang/invoke/MethodHandle" ∧ yJ7_coder.cls ≠ "java/lang/invoke/VarHandle" ∧ (parseMethodDescriptor yJ7_coder.desc).map (fun d => d.parameters.length) = some 0 := by decide +kernel
noncomputable def fn_J7_coder (K : zm_K) (a0 : zm_R) : zm_M Int32 :=
  if (1 : Int32) = 0 then
    zm_ret 1
  else
    zm_bnd (zm_getI a0 3 1) fun v7 =>
    zm_bnd (zm_grd (-128 ≤ v7 ∧ v7 ≤ 127)) fun _ =>
    zm_ret v7
theorem ct_J7_coder {l : Launch} {Ω : zm_W} {K : zm_K} (H : zm_H Ω K) (a0 : zm_R) : zm_Ct l Ω yJ7_coder (ws_ yJ7_coder cJ7_coder 1 (Option.some Jvm.ClassFile.FieldType.byte)) 1 64 [va_rf a0] zm_tvI (fn_J7_coder K a0) := by
  refine zm_ct H.1 (by decide +kernel) (zl_le (zl_R zl_nil) (Nat.le_of_ble_eq_true rfl)) ?_
  intro p e R s m args below meth c n0 k0 C hX ls hl
  have hx := C.1
  have hb := C.2.1
  simp only [zg_R, zg_nil] at hl
  have hl : lv_has ls 1 [(0, va_rf a0)] := hl
  refine rk_rf ?_
  unfold fn_J7_coder
  refine rk_gets C (zh_it1 H) q498 (fun _ h => h) dJ7_coder_0 ?_
  refine rk_ite (fun _ _ _ _ _ k1 k2 => lv_if_eq (tgt := 13) hx hb dJ7_coder_3 (by decide) k1 k2) (fun c_3 => ?_) (fun c_3 => ?_)
  · refine rk_of (fun _ _ _ _ _ k => lv_iconst (v := 1) hx hb dJ7_coder_13 rfl k) ?_
    exact rk_top (rf_iret C rfl dJ7_coder_14)
  · refine rk_of (fun _ _ _ _ _ k => lr_aload_n hx hb dJ7_coder_6 rfl (lv_at hl 0 rfl) k) ?_
    refine rk_get zm_rdI_eq C (hc_J7 H) (k := 1) (Nat.le_of_ble_eq_true rfl) in_J7 q649 (fun _ h => h) dJ7_coder_7 (fun v7 => ?_)
    refine rk_of (fun _ _ _ _ _ k => lv_goto (tgt := 14) hx hb dJ7_coder_10 (by decide) k) ?_
    refine rk_grd (fun hg_14 => ?_)
    exact rk_top (rf_iret C (zn_B hg_14) dJ7_coder_14)
theorem hd_J7_length : yJ7_length.cls ≠ "java/lang/invoke/MethodHandle" ∧ yJ7_length.cls ≠ "java/lang/invoke/VarHandle" ∧ (parseMethodDescriptor yJ7_length.desc).map (fun d => d.parameters.length) = some 0 := by decide +kernel
noncomputable def fn_J7_length (K : zm_K) (a0 : zm_R) : zm_M Int32 :=
  zm_bnd (zm_getR a0 3 0) fun v1 =>
  zm_bnd (zm_alen v1) fun v4 =>
  zm_bnd (zm_bnd (zm_is a0 3) fun _ => fn_J7_coder K a0) fun v6 =>
  zm_ret (v4 >>> (v6 &&& 31))
theorem ct_J7_length {l : Launch} {Ω : zm_W} {K : zm_K} (H : zm_H Ω K) (a0 : zm_R) : zm_Ct l Ω yJ7_length (ws_ yJ7_length cJ7_length 1 (Option.some Jvm.ClassFile.FieldType.int)) 2 84 [va_rf a0] zm_tvI (fn_J7_length K a0) := by
  refine zm_ct H.1 (by decide +kernel) (zl_le (zl_R zl_nil) (Nat.le_of_ble_eq_true rfl)) ?_
  intro p e R s m args below meth c n0 k0 C hX ls hl
  have hx := C.1
  have hb := C.2.1
  simp only [zg_R, zg_nil] at hl
  have hl : lv_has ls 1 [(0, va_rf a0)] := hl
  refine rk_rf ?_
  unfold fn_J7_length
  refine rk_of (fun _ _ _ _ _ k => lr_aload_n hx hb dJ7_length_0 rfl (lv_at hl 0 rfl) k) ?_
  refine rk_get zm_rdR_eq C (hc_J7 H) (k := 0) (Nat.le_of_ble_eq_true rfl) in_J7 q648 (fun _ h => h) dJ7_length_1 (fun v1 => ?_)
  refine rk_alen C dJ7_length_4 (fun v4 => ?_)
  refine rk_of (fun _ _ _ _ _ k => lr_aload_n hx hb dJ7_length_5 rfl (lv_at hl 0 rfl) k) ?_
  refine rk_callI hX (cl_V (rest := [.int v4]) (av := []) C (hc_J7 H) (ct_J7_coder H a0) (lw_V q494 q495 q496 q110 q497) ⟨rfl, hd_J7_coder⟩ ⟨(Nat.le_of_ble_eq_true rfl), (Nat.le_of_ble_eq_true rfl)⟩ rfl hl.1 rfl (zw_le (zw_I zw_nil) (Nat.le_of_ble_eq_true rfl)) dJ7_length_6) (fun v6 => ?_)
  refine rk_of (fun _ _ _ _ _ k => lv_ishr hx hb dJ7_length_9 k) ?_
  exact rk_top (rf_iret C rfl dJ7_length_10)
theorem hd_X3_isWord : yX3_isWord.cls ≠ "java/lang/invoke/MethodHandle" ∧ yX3_isWord.cls ≠ "java/lang/invoke/VarHandle" ∧ (parseMethodDescriptor yX3_isWord.desc).map (fun d => d.parameters.length) = some 0 := by decide +kernel
noncomputable def fn_X3_isWord_30 (K : zm_K) (p0 : zm_R) (p1 : Int32) (p2 : zm_R) : Nat → Int32 → zm_M (Int32)
  | 0, _ => zm_fl
  | n + 1, x3 =>
    zm_bnd (zm_bnd (zm_is p2 3) fun _ => fn_J7_length K p2) fun v32 =>
    if v32 ≤ x3 then
      zm_ret x3
    else
      zm_bnd (zm_bnd (zm_is p2 3) fun _ => fn_J7_charAt K p2 x3) fun v41 =>
      zm_bnd (zm_bnd (zm_is p0 20) fun _ => fn_X3_isSign K p0 v41) fun v44 =>
      if v44 = 0 then
        zm_ret x3
      else
        fn_X3_isWord_30 K p0 p1 p2 n (x3 + 1)
noncomputable def fn_X3_isWord_2 (K : zm_K) (p0 : zm_R) : Nat → Int32 → zm_M ((Unit) ⊕ (Int32))
  | 0, _ => zm_fl
  | n + 1, x1 =>
    if 6 < x1 then
      zm_ret (Sum.inl ())
    else
      zm_bnd (fn_X3_wordOf K x1) fun v9 =>
      zm_bnd (zm_bnd (zm_is p0 20) fun _ => fn_X3_sign K p0) fun v14 =>
      zm_bnd (zm_bnd (zm_is v9 3) fun _ => fn_J7_charAt K v9 0) fun v19 =>
      if v14 = v19 then
        zm_bnd (α := Int32) (fn_X3_isWord_30 K p0 x1 v9 zm_N 0) fun b56 =>
        zm_bnd (zm_putF K p0 20 22 (.int x1)) fun _ =>
        zm_bnd (zm_bnd (zm_is v9 3) fun _ => fn_J7_length K v9) fun v63 =>
        if b56 = v63 then
          zm_ret (Sum.inr 1)
        else
          zm_ret (Sum.inr 0)
      else
        fn_X3_isWord_2 K p0 n (x1 + 1)
noncomputable def fn_X3_isWord (K : zm_K) (a0 : zm_R) : zm_M Int32 :=
  zm_bnx (β := Unit) (fn_X3_isWord_2 K a0 zm_N 0) fun (_ : Unit) =>
  zm_ret 0
theorem rf_X3_isWord_30 (H : zm_H Ω K) (C : zm_C p l R s m args meth c Ω lw_all cX3_isWord yX3_isWord.cls yX3_isWord.name 4 5 149 (Option.some Jvm.ClassFile.FieldType.boolean)) (hX : zm_XO p l e R s m args below meth c Ω n0 k0 (zm_QFs below args s Ω n0 k0 zm_tvI)) (p0 : zm_R) (p1 : Int32) (p2 : zm_R) : ∀ (n : Nat) (x3 : Int32) (J : (Int32) → zm_M Int32) (ls : Array Slot), lv_has ls 4 [(0, va_rf p0), (1, .int p1), (2, va_rf p2), (3, .int x3)] → (∀ (b : Int32) (ls : Array Slot), lv_has ls 4 [(0, va_rf p0), (1, .int p1), (2, va_rf p2), (3, .int b)] → zm_RK p l e R s m args below meth c Ω n0 k0 (zm_QFs below args s Ω n0 k0 zm_tvI) (zm_ret b) J (F0 m 56 ls [])) → zm_RK p l e R s m args below meth c Ω n0 k0 (zm_QFs below args s Ω n0 k0 zm_tvI) (fn_X3_isWord_30 K p0 p1 p2 n x3) J (F0 m 30 ls []) := by
  have hx := C.1
  have hb := C.2.1
  intro n
  induction n with
  | zero => intro x3 J ls hl hJ; exact rk_fl
  | succ n ih =>
    intro x3 J ls hl hJ
    unfold fn_X3_isWord_30
    refine rk_of (fun _ _ _ _ _ k => lv_iload_n hx hb dX3_isWord_30 rfl (lv_at hl 3 rfl) (lr_aload_n hx hb dX3_isWord_31 rfl (lv_at hl 2 rfl) k)) ?_
    refine rk_callI hX (cl_V (rest := [.int x3]) (av := []) C (hc_J7 H) (ct_J7_length H p2) (lw_V q3017 q491 q492 q110 q493) ⟨rfl, hd_J7_length⟩ ⟨(Nat.le_of_ble_eq_true rfl), (Nat.le_of_ble_eq_true rfl)⟩ rfl hl.1 rfl (zw_le (zw_I zw_nil) (Nat.le_of_ble_eq_true rfl)) dX3_isWord_32) (fun v32 => ?_)
    refine rk_ite (fun _ _ _ _ _ k1 k2 => lv_icmp_ge (tgt := 56) hx hb dX3_isWord_35 (by decide) k1 k2) (fun c_35 => ?_) (fun c_35 => ?_)
    · exact hJ x3 ls (lv_sub hl [0, 1, 2, 3] rfl)
    · refine rk_of (fun _ _ _ _ _ k => lr_aload_n hx hb dX3_isWord_38 rfl (lv_at hl 0 rfl) (lr_aload_n hx hb dX3_isWord_39 rfl (lv_at hl 2 rfl) (lv_iload_n hx hb dX3_isWord_40 rfl (lv_at hl 3 rfl) k))) ?_
      refine rk_callI hX (cl_V (rest := [va_rf p0]) (av := [.int x3]) C (hc_J7 H) (ct_J7_charAt H p2 x3) (lw_V q3016 q2023 q3091 q110 q2025) ⟨rfl, hd_J7_charAt⟩ ⟨(Nat.le_of_ble_eq_true rfl), (Nat.le_of_ble_eq_true rfl)⟩ rfl hl.1 rfl (zw_le (zw_R zw_nil) (Nat.le_of_ble_eq_true rfl)) dX3_isWord_41) (fun v41 => ?_)
      refine rk_callI hX (cl_V (rest := []) (av := [.int v41]) C (hc_X3 H) (ct_X3_isSign H p0 v41) (lw_V q3018 q3020 qs93 q112 q3021) ⟨rfl, hd_X3_isSign⟩ ⟨(Nat.le_of_ble_eq_true rfl), (Nat.le_of_ble_eq_true rfl)⟩ rfl hl.1 rfl (zw_le zw_nil (Nat.le_of_ble_eq_true rfl)) dX3_isWord_44) (fun v44 => ?_)
      refine rk_ite (fun _ _ _ _ _ k1 k2 => lv_if_eq (tgt := 56) hx hb dX3_isWord_47 (by decide) k1 k2) (fun c_47 => ?_) (fun c_47 => ?_)
      · exact hJ x3 ls (lv_sub hl [0, 1, 2, 3] rfl)
      · refine rk_ofs (fun _ _ _ _ _ k => lr_iinc (v := x3 + 1) hx hb dX3_isWord_50 hl (k := 3) rfl rfl (Nat.le_of_ble_eq_true rfl) [0, 1, 2] rfl ⟨trivial, ⟨trivial, ⟨va_rf_cat _, trivial⟩⟩⟩ k) (fun ls hl => ?_)
        refine rk_of (fun _ _ _ _ _ k => lv_goto (tgt := 30) hx hb dX3_isWord_53 (by decide) k) ?_
        exact ih (x3 + 1) J ls (lv_sub hl [1, 2, 3, 0] rfl) hJ
theorem rf_X3_isWord_2 (H : zm_H Ω K) (C : zm_C p l R s m args meth c Ω lw_all cX3_isWord yX3_isWord.cls yX3_isWord.name 4 5 149 (Option.some Jvm.ClassFile.FieldType.boolean)) (hX : zm_XO p l e R s m args below meth c Ω n0 k0 (zm_QFs below args s Ω n0 k0 zm_tvI)) (p0 : zm_R) : ∀ (n : Nat) (x1 : Int32) (J : ((Unit) ⊕ (Int32)) → zm_M Int32) (ls : Array Slot), lv_has ls 4 [(0, va_rf p0), (1, .int x1)] → (∀ (b : Unit) (ls : Array Slot), lv_has ls 4 [] → zm_RK p l e R s m args below meth c Ω n0 k0 (zm_QFs below args s Ω n0 k0 zm_tvI) (zm_ret (Sum.inl b)) J (F0 m 81 ls [])) → (∀ (v : Int32) (g : JFrame), zm_RF p l e R s m args below meth c Ω n0 k0 (zm_QFs below args s Ω n0 k0 zm_tvI) (zm_ret v) g → zm_RK p l e R s m args below meth c Ω n0 k0 (zm_QFs below args s Ω n0 k0 zm_tvI) (zm_ret (Sum.inr v)) J g) → zm_RK p l e R s m args below meth c Ω n0 k0 (zm_QFs below args s Ω n0 k0 zm_tvI) (fn_X3_isWord_2 K p0 n x1) J (F0 m 2 ls []) := by
  have hx := C.1
  have hb := C.2.1
  intro n
  induction n with
  | zero => intro x1 J ls hl hJ hR; exact rk_fl
  | succ n ih =>
    intro x1 J ls hl hJ hR
    unfold fn_X3_isWord_2
    refine rk_ite (fun _ _ _ _ _ k1 k2 => lv_iload_n hx hb dX3_isWord_2 rfl (lv_at hl 1 rfl) (lv_bipush (v := 6) hx hb dX3_isWord_3 rfl (lv_icmp_gt (tgt := 81) hx hb dX3_isWord_5 (by decide) k1 k2))) (fun c_5 => ?_) (fun c_5 => ?_)
    · exact hJ () ls (lv_sub hl [] rfl)
    · refine rk_of (fun _ _ _ _ _ k => lv_iload_n hx hb dX3_isWord_8 rfl (lv_at hl 1 rfl) k) ?_
      refine rk_callR hX (cl_S (rest := []) C (ct_X3_wordOf H x1) (lw_S q3002 q3003 q112 q3004) hd_X3_wordOf ⟨(Nat.le_of_ble_eq_true rfl), (Nat.le_of_ble_eq_true rfl)⟩ rfl hl.1 rfl (zw_le zw_nil (Nat.le_of_ble_eq_true rfl)) dX3_isWord_9) (fun v9 => ?_)
      refine rk_ofs (fun _ _ _ _ _ k => lr_astore_n hx hb dX3_isWord_12 rfl hl (Nat.le_of_ble_eq_true rfl) [0, 1] rfl ⟨trivial, ⟨rfl, trivial⟩⟩ k) (fun ls hl => ?_)
      refine rk_of (fun _ _ _ _ _ k => lr_aload_n hx hb dX3_isWord_13 rfl (lv_at hl 1 rfl) k) ?_
      refine rk_callI hX (cl_V (rest := []) (av := []) C (hc_X3 H) (ct_X3_sign H p0) (lw_V q3012 q3014 qs92 q112 q3015) ⟨rfl, hd_X3_sign⟩ ⟨(Nat.le_of_ble_eq_true rfl), (Nat.le_of_ble_eq_true rfl)⟩ rfl hl.1 rfl (zw_le zw_nil (Nat.le_of_ble_eq_true rfl)) dX3_isWord_14) (fun v14 => ?_)
      refine rk_of (fun _ _ _ _ _ k => lr_aload_n hx hb dX3_isWord_17 rfl (lv_at hl 0 rfl) (lv_iconst (v := 0) hx hb dX3_isWord_18 rfl k)) ?_
      refine rk_callI hX (cl_V (rest := [.int v14]) (av := [.int 0]) C (hc_J7 H) (ct_J7_charAt H v9 0) (lw_V q3016 q2023 q3091 q110 q2025) ⟨rfl, hd_J7_charAt⟩ ⟨(Nat.le_of_ble_eq_true rfl), (Nat.le_of_ble_eq_true rfl)⟩ rfl hl.1 rfl (zw_le (zw_I zw_nil) (Nat.le_of_ble_eq_true rfl)) dX3_isWord_19) (fun v19 => ?_)
      refine rk_ite (fun _ _ _ _ _ k1 k2 => lv_icmp_eq (tgt := 28) hx hb dX3_isWord_22 (by decide) k1 k2) (fun c_22 => ?_) (fun c_22 => ?_)
      · refine rk_ofs (fun _ _ _ _ _ k => lv_iconst (v := 0) hx hb dX3_isWord_28 rfl (lr_istore_n hx hb dX3_isWord_29 rfl hl (Nat.le_of_ble_eq_true rfl) [0, 1, 2] rfl ⟨va_rf_cat _, ⟨trivial, ⟨trivial, trivial⟩⟩⟩ k)) (fun ls hl => ?_)
        refine rk_join (β := Int32) (fun (b56 : Int32) ls => lv_has ls 4 [(0, va_rf p0), (1, .int x1), (2, va_rf v9), (3, .int b56)]) (fun (b56 : Int32) ls => F0 m 56 ls []) (fun b56 ls hl => ?_) (fun hJ56 => ?_)
        · refine rk_of (fun _ _ _ _ _ k => lr_aload_n hx hb dX3_isWord_56 rfl (lv_at hl 0 rfl) (lv_iload_n hx hb dX3_isWord_57 rfl (lv_at hl 1 rfl) k)) ?_
          refine rk_put C H.2.2.1 (hc_X3 H) (k := 22) (Nat.le_of_ble_eq_true rfl) in_X3 (ty0 := tyX3) tyX3_ok nmX3 q2599 (fun _ h => h) (Or.inl rfl) rfl rfl dX3_isWord_58 ?_
          refine rk_of (fun _ _ _ _ _ k => lv_iload_n hx hb dX3_isWord_61 rfl (lv_at hl 3 rfl) (lr_aload_n hx hb dX3_isWord_62 rfl (lv_at hl 2 rfl) k)) ?_
          refine rk_callI hX (cl_V (rest := [.int b56]) (av := []) C (hc_J7 H) (ct_J7_length H v9) (lw_V q3017 q491 q492 q110 q493) ⟨rfl, hd_J7_length⟩ ⟨(Nat.le_of_ble_eq_true rfl), (Nat.le_of_ble_eq_true rfl)⟩ rfl hl.1 rfl (zw_le (zw_I zw_nil) (Nat.le_of_ble_eq_true rfl)) dX3_isWord_63) (fun v63 => ?_)
          refine rk_ite (fun _ _ _ _ _ k1 k2 => lv_icmp_ne (tgt := 73) hx hb dX3_isWord_66 (by decide) k2 k1) (fun c_66 => ?_) (fun c_66 => ?_)
          · refine rk_of (fun _ _ _ _ _ k => lv_iconst (v := 1) hx hb dX3_isWord_69 rfl (lv_goto (tgt := 74) hx hb dX3_isWord_70 (by decide) k)) ?_
            exact hR _ _ (rf_iret C rfl dX3_isWord_74)
          · refine rk_of (fun _ _ _ _ _ k => lv_iconst (v := 0) hx hb dX3_isWord_73 rfl k) ?_
            exact hR _ _ (rf_iret C rfl dX3_isWord_74)
        · exact rf_X3_isWord_30 H C hX p0 x1 v9 zm_N 0 _ ls (lv_sub hl [2, 3, 1, 0] rfl) hJ56
      · refine rk_ofs (fun _ _ _ _ _ k => lv_goto (tgt := 75) hx hb dX3_isWord_25 (by decide) (lr_iinc (v := x1 + 1) hx hb dX3_isWord_75 hl (k := 2) rfl rfl (Nat.le_of_ble_eq_true rfl) [1] rfl ⟨va_rf_cat _, trivial⟩ k)) (fun ls hl => ?_)
        refine rk_of (fun _ _ _ _ _ k => lv_goto (tgt := 2) hx hb dX3_isWord_78 (by decide) k) ?_
        exact ih (x1 + 1) J ls (lv_sub hl [1, 0] rfl) hJ hR
theorem ct_X3_isWord {l : Launch} {Ω : zm_W} {K : zm_K} (H : zm_H Ω K) (a0 : zm_R) : zm_Ct l Ω yX3_isWord (ws_ yX3_isWord cX3_isWord 4 (Option.some Jvm.ClassFile.FieldType.boolean)) 5 149 [va_rf a0] zm_tvI (fn_X3_isWord K a0) := by
  refine zm_ct H.1 (by decide +kernel) (zl_le (zl_R zl_nil) (Nat.le_of_ble_eq_true rfl)) ?_
  intro p e R s m args below meth c n0 k0 C hX ls hl
  have hx := C.1
  have hb := C.2.1
  simp only [zg_R, zg_nil] at hl
  have hl : lv_has ls 4 [(0, va_rf a0)] := hl
  refine rk_rf ?_
  unfold fn_X3_isWord
  refine rk_ofs (fun _ _ _ _ _ k => lv_iconst (v := 0) hx hb dX3_isWord_0 rfl (lr_istore_n hx hb dX3_isWord_1 rfl hl (Nat.le_of_ble_eq_true rfl) [0] rfl ⟨va_rf_cat _, trivial⟩ k)) (fun ls hl => ?_)
  refine rk_joinx (β := Unit) (fun (b81 : Unit) ls => lv_has ls 4 []) (fun (b81 : Unit) ls => F0 m 81 ls []) (fun b81 ls hl => ?_) (fun hJ81 => ?_)
  · refine rk_of (fun _ _ _ _ _ k => lv_iconst (v := 0) hx hb dX3_isWord_81 rfl k) ?_
    exact rk_top (rf_iret C rfl dX3_isWord_82)
  · exact rf_X3_isWord_2 H C hX a0 zm_N 0 _ ls (lv_sub hl [1, 0] rfl) hJ81 (fun v g k9 => by
        refine rk_inr ?_
        exact rk_top (k9))
theorem hd_X3_readsCommand : yX3_readsCommand.cls ≠ "java/lang/invoke/MethodHandle" ∧ yX3_readsCommand.cls ≠ "java/lang/invoke/VarHandle" ∧ (parseMethodDescriptor yX3_readsCommand.desc).map (fun d => d.parameters.length) = some 0 := by decide +kernel
noncomputable def fn_X3_readsCommand (K : zm_K) (a0 : zm_R) : zm_M Int32 :=
  zm_bnd (zm_bnd (zm_is a0 20) fun _ => fn_X3_isWord K a0) fun v1 =>
  if v1 = 0 then
    zm_ret 0
  else
    zm_bnd (zm_getI a0 20 21) fun v11 =>
    zm_bnd (zm_getR a0 20 18) fun v17 =>
    zm_bnd (zm_getI a0 20 22) fun v22 =>
    zm_bnd (zm_astI K .int v17 (5 * v11) v22) fun _ =>
    zm_bnd (zm_getI a0 20 21) fun v28 =>
    zm_bnd (zm_putF K a0 20 21 (.int (v28 + 1))) fun _ =>
    zm_bnd (zm_getI a0 20 22) fun v37 =>
    if v37 = 0 then
      zm_bnd (zm_bnd (zm_is a0 20) fun _ => fn_X3_isNumber K a0 1 ((5 * v11) + 1)) fun v89 =>
      if v89 = 0 then
        zm_ret 0
      else
        zm_bnd (zm_bnd (zm_is a0 20) fun _ => fn_X3_isSign K a0 32) fun v98 =>
        if v98 = 0 then
          zm_ret 0
        else
          zm_bnd (zm_bnd (zm_is a0 20) fun _ => fn_X3_isNumber K a0 1 ((5 * v11) + 2)) fun v109 =>
          if v109 = 0 then
            zm_ret 0
          else
            zm_bnd (zm_bnd (zm_is a0 20) fun _ => fn_X3_isSpan K a0 ((5 * v11) + 3)) fun v119 =>
            if v119 = 0 then
              zm_ret 0
            else
              zm_ret 1
    else
      if v37 = 1 then
        zm_bnd (zm_bnd (zm_is a0 20) fun _ => fn_X3_isNumber K a0 3 ((5 * v11) + 1)) fun v210 =>
        zm_bnd (zm_grd (v210 = 0 ∨ v210 = 1)) fun _ =>
        zm_ret v210
      else
        if v37 = 2 then
          zm_bnd (zm_bnd (zm_is a0 20) fun _ => fn_X3_isMoved K a0 ((5 * v11) + 1)) fun v162 =>
          zm_bnd (zm_grd (v162 = 0 ∨ v162 = 1)) fun _ =>
          zm_ret v162
        else
          if v37 = 3 then
            zm_bnd (zm_bnd (zm_is a0 20) fun _ => fn_X3_isNumber K a0 3 ((5 * v11) + 1)) fun v171 =>
            if v171 = 0 then
              zm_ret 0
            else
              zm_bnd (zm_bnd (zm_is a0 20) fun _ => fn_X3_isSign K a0 32) fun v180 =>
              if v180 = 0 then
                zm_ret 0
              else
                zm_bnd (zm_bnd (zm_is a0 20) fun _ => fn_X3_isNumber K a0 3 ((5 * v11) + 2)) fun v191 =>
                if v191 = 0 then
                  zm_ret 0
                else
                  zm_ret 1
          else
            if v37 = 4 then
              zm_bnd (zm_bnd (zm_is a0 20) fun _ => fn_X3_isNumber K a0 1 ((5 * v11) + 1)) fun v136 =>
              if v136 = 0 then
                zm_ret 0
              else
                zm_bnd (zm_bnd (zm_is a0 20) fun _ => fn_X3_isSpan K a0 ((5 * v11) + 2)) fun v146 =>
                if v146 = 0 then
                  zm_ret 0
                else
                  zm_ret 1
            else
              if v37 = 5 then
                zm_bnd (zm_bnd (zm_is a0 20) fun _ => fn_X3_isNumber K a0 3 ((5 * v11) + 1)) fun v210 =>
                zm_bnd (zm_grd (v210 = 0 ∨ v210 = 1)) fun _ =>
                zm_ret v210
              else
                if v37 = 6 then
                  zm_ret 1
                else
                  zm_bnd (zm_bnd (zm_is a0 20) fun _ => fn_X3_isNumber K a0 3 ((5 * v11) + 1)) fun v210 =>
                  zm_bnd (zm_grd (v210 = 0 ∨ v210 = 1)) fun _ =>
                  zm_ret v210
theorem ct_X3_readsCommand {l : Launch} {Ω : zm_W} {K : zm_K} (H : zm_H Ω K) (a0 : zm_R) : zm_Ct l Ω yX3_readsCommand (ws_ yX3_readsCommand cX3_readsCommand 2 (Option.some Jvm.ClassFile.FieldType.boolean)) 6 172 [va_rf a0] zm_tvI (fn_X3_readsCommand K a0) := by
  refine zm_ct H.1 (by decide +kernel) (zl_le (zl_R zl_nil) (Nat.le_of_ble_eq_true rfl)) ?_
  intro p e R s m args below meth c n0 k0 C hX ls hl
  have hx := C.1
  have hb := C.2.1
  simp only [zg_R, zg_nil] at hl
  have hl : lv_has ls 2 [(0, va_rf a0)] := hl
  refine rk_rf ?_
  unfold fn_X3_readsCommand
  refine rk_of (fun _ _ _ _ _ k => lr_aload_n hx hb dX3_readsCommand_0 rfl (lv_at hl 0 rfl) k) ?_
  refine rk_callI hX (cl_V (rest := []) (av := []) C (hc_X3 H) (ct_X3_isWord H a0) (lw_V q2998 q3000 qs91 q112 q3001) ⟨rfl, hd_X3_isWord⟩ ⟨(Nat.le_of_ble_eq_true rfl), (Nat.le_of_ble_eq_true rfl)⟩ rfl hl.1 rfl (zw_le zw_nil (Nat.le_of_ble_eq_true rfl)) dX3_readsCommand_1) (fun v1 => ?_)
  refine rk_ite (fun _ _ _ _ _ k1 k2 => lv_if_ne (tgt := 9) hx hb dX3_readsCommand_4 (by decide) k2 k1) (fun c_4 => ?_) (fun c_4 => ?_)
  · refine rk_of (fun _ _ _ _ _ k => lv_iconst (v := 0) hx hb dX3_readsCommand_7 rfl k) ?_
    exact rk_top (rf_iret C rfl dX3_readsCommand_8)
  · refine rk_of (fun _ _ _ _ _ k => lv_iconst (v := 5) hx hb dX3_readsCommand_9 rfl (lr_aload_n hx hb dX3_readsCommand_10 rfl (lv_at hl 0 rfl) k)) ?_
    refine rk_get zm_rdI_eq C (hc_X3 H) (k := 21) (Nat.le_of_ble_eq_true rfl) in_X3 q2598 (fun _ h => h) dX3_readsCommand_11 (fun v11 => ?_)
    refine rk_ofs (fun _ _ _ _ _ k => lv_imul hx hb dX3_readsCommand_14 (lr_istore_n hx hb dX3_readsCommand_15 rfl hl (Nat.le_of_ble_eq_true rfl) [0] rfl ⟨va_rf_cat _, trivial⟩ k)) (fun ls hl => ?_)
    refine rk_of (fun _ _ _ _ _ k => lr_aload_n hx hb dX3_readsCommand_16 rfl (lv_at hl 1 rfl) k) ?_
    refine rk_get zm_rdR_eq C (hc_X3 H) (k := 18) (Nat.le_of_ble_eq_true rfl) in_X3 q2595 (fun _ h => h) dX3_readsCommand_17 (fun v17 => ?_)
    refine rk_of (fun _ _ _ _ _ k => lv_iload_n hx hb dX3_readsCommand_20 rfl (lv_at hl 0 rfl) (lr_aload_n hx hb dX3_readsCommand_21 rfl (lv_at hl 1 rfl) k)) ?_
    refine rk_get zm_rdI_eq C (hc_X3 H) (k := 22) (Nat.le_of_ble_eq_true rfl) in_X3 q2599 (fun _ h => h) dX3_readsCommand_22 (fun v22 => ?_)
    refine rk_iast C H.2.2.1 dX3_readsCommand_25 ?_
    refine rk_of (fun _ _ _ _ _ k => lr_aload_n hx hb dX3_readsCommand_26 rfl (lv_at hl 1 rfl) (lv_dup hx hb dX3_readsCommand_27 (va_rf_cat _) k)) ?_
    refine rk_get zm_rdI_eq C (hc_X3 H) (k := 21) (Nat.le_of_ble_eq_true rfl) in_X3 q2598 (fun _ h => h) dX3_readsCommand_28 (fun v28 => ?_)
    refine rk_of (fun _ _ _ _ _ k => lv_iconst (v := 1) hx hb dX3_readsCommand_31 rfl (lv_iadd hx hb dX3_readsCommand_32 k)) ?_
    refine rk_put C H.2.2.1 (hc_X3 H) (k := 21) (Nat.le_of_ble_eq_true rfl) in_X3 (ty0 := tyX3) tyX3_ok nmX3 q2598 (fun _ h => h) (Or.inl rfl) rfl rfl dX3_readsCommand_33 ?_
    refine rk_of (fun _ _ _ _ _ k => lr_aload_n hx hb dX3_readsCommand_36 rfl (lv_at hl 1 rfl) k) ?_
    refine rk_get zm_rdI_eq C (hc_X3 H) (k := 22) (Nat.le_of_ble_eq_true rfl) in_X3 q2599 (fun _ h => h) dX3_readsCommand_37 (fun v37 => ?_)
    refine rk_case (fun c_40_0 => ?_) (fun c_40_0 => ?_)
    · refine rk_of (fun _ _ _ _ _ k => by rw [c_40_0]; exact lv_tableIn (off := 44) (tgt := 84) hx hb dX3_readsCommand_40 (by decide) (by decide) rfl (by decide) k) ?_
      refine rk_of (fun _ _ _ _ _ k => lr_aload_n hx hb dX3_readsCommand_84 rfl (lv_at hl 1 rfl) (lv_iconst (v := 1) hx hb dX3_readsCommand_85 rfl (lv_iload_n hx hb dX3_readsCommand_86 rfl (lv_at hl 0 rfl) (lv_iconst (v := 1) hx hb dX3_readsCommand_87 rfl (lv_iadd hx hb dX3_readsCommand_88 k))))) ?_
      refine rk_callI hX (cl_V (rest := []) (av := [.int 1, .int ((5 * v11) + 1)]) C (hc_X3 H) (ct_X3_isNumber H a0 1 ((5 * v11) + 1)) (lw_V q3022 q3024 qs94 q112 q3025) ⟨rfl, hd_X3_isNumber⟩ ⟨(Nat.le_of_ble_eq_true rfl), (Nat.le_of_ble_eq_true rfl)⟩ rfl hl.1 rfl (zw_le zw_nil (Nat.le_of_ble_eq_true rfl)) dX3_readsCommand_89) (fun v89 => ?_)
      refine rk_ite (fun _ _ _ _ _ k1 k2 => lv_if_eq (tgt := 129) hx hb dX3_readsCommand_92 (by decide) k1 k2) (fun c_92 => ?_) (fun c_92 => ?_)
      · refine rk_of (fun _ _ _ _ _ k => lv_iconst (v := 0) hx hb dX3_readsCommand_129 rfl k) ?_
        exact rk_top (rf_iret C rfl dX3_readsCommand_130)
      · refine rk_of (fun _ _ _ _ _ k => lr_aload_n hx hb dX3_readsCommand_95 rfl (lv_at hl 1 rfl) (lv_bipush (v := 32) hx hb dX3_readsCommand_96 rfl k)) ?_
        refine rk_callI hX (cl_V (rest := []) (av := [.int 32]) C (hc_X3 H) (ct_X3_isSign H a0 32) (lw_V q3018 q3020 qs93 q112 q3021) ⟨rfl, hd_X3_isSign⟩ ⟨(Nat.le_of_ble_eq_true rfl), (Nat.le_of_ble_eq_true rfl)⟩ rfl hl.1 rfl (zw_le zw_nil (Nat.le_of_ble_eq_true rfl)) dX3_readsCommand_98) (fun v98 => ?_)
        refine rk_ite (fun _ _ _ _ _ k1 k2 => lv_if_eq (tgt := 129) hx hb dX3_readsCommand_101 (by decide) k1 k2) (fun c_101 => ?_) (fun c_101 => ?_)
        · refine rk_of (fun _ _ _ _ _ k => lv_iconst (v := 0) hx hb dX3_readsCommand_129 rfl k) ?_
          exact rk_top (rf_iret C rfl dX3_readsCommand_130)
        · refine rk_of (fun _ _ _ _ _ k => lr_aload_n hx hb dX3_readsCommand_104 rfl (lv_at hl 1 rfl) (lv_iconst (v := 1) hx hb dX3_readsCommand_105 rfl (lv_iload_n hx hb dX3_readsCommand_106 rfl (lv_at hl 0 rfl) (lv_iconst (v := 2) hx hb dX3_readsCommand_107 rfl (lv_iadd hx hb dX3_readsCommand_108 k))))) ?_
          refine rk_callI hX (cl_V (rest := []) (av := [.int 1, .int ((5 * v11) + 2)]) C (hc_X3 H) (ct_X3_isNumber H a0 1 ((5 * v11) + 2)) (lw_V q3022 q3024 qs94 q112 q3025) ⟨rfl, hd_X3_isNumber⟩ ⟨(Nat.le_of_ble_eq_true rfl), (Nat.le_of_ble_eq_true rfl)⟩ rfl hl.1 rfl (zw_le zw_nil (Nat.le_of_ble_eq_true rfl)) dX3_readsCommand_109) (fun v109 => ?_)
          refine rk_ite (fun _ _ _ _ _ k1 k2 => lv_if_eq (tgt := 129) hx hb dX3_readsCommand_112 (by decide) k1 k2) (fun c_112 => ?_) (fun c_112 => ?_)
          · refine rk_of (fun _ _ _ _ _ k => lv_iconst (v := 0) hx hb dX3_readsCommand_129 rfl k) ?_
            exact rk_top (rf_iret C rfl dX3_readsCommand_130)
          · refine rk_of (fun _ _ _ _ _ k => lr_aload_n hx hb dX3_readsCommand_115 rfl (lv_at hl 1 rfl) (lv_iload_n hx hb dX3_readsCommand_116 rfl (lv_at hl 0 rfl) (lv_iconst (v := 3) hx hb dX3_readsCommand_117 rfl (lv_iadd hx hb dX3_readsCommand_118 k)))) ?_
            refine rk_callI hX (cl_V (rest := []) (av := [.int ((5 * v11) + 3)]) C (hc_X3 H) (ct_X3_isSpan H a0 ((5 * v11) + 3)) (lw_V q3026 q3028 qs95 q112 q3029) ⟨rfl, hd_X3_isSpan⟩ ⟨(Nat.le_of_ble_eq_true rfl), (Nat.le_of_ble_eq_true rfl)⟩ rfl hl.1 rfl (zw_le zw_nil (Nat.le_of_ble_eq_true rfl)) dX3_readsCommand_119) (fun v119 => ?_)
            refine rk_ite (fun _ _ _ _ _ k1 k2 => lv_if_eq (tgt := 129) hx hb dX3_readsCommand_122 (by decide) k1 k2) (fun c_122 => ?_) (fun c_122 => ?_)
            · refine rk_of (fun _ _ _ _ _ k => lv_iconst (v := 0) hx hb dX3_readsCommand_129 rfl k) ?_
              exact rk_top (rf_iret C rfl dX3_readsCommand_130)
            · refine rk_of (fun _ _ _ _ _ k => lv_iconst (v := 1) hx hb dX3_readsCommand_125 rfl (lv_goto (tgt := 130) hx hb dX3_readsCommand_126 (by decide) k)) ?_
              exact rk_top (rf_iret C rfl dX3_readsCommand_130)
    · refine rk_case (fun c_40_1 => ?_) (fun c_40_1 => ?_)
      · refine rk_of (fun _ _ _ _ _ k => by rw [c_40_1]; exact lv_tableIn (off := 165) (tgt := 205) hx hb dX3_readsCommand_40 (by decide) (by decide) rfl (by decide) k) ?_
        refine rk_of (fun _ _ _ _ _ k => lr_aload_n hx hb dX3_readsCommand_205 rfl (lv_at hl 1 rfl) (lv_iconst (v := 3) hx hb dX3_readsCommand_206 rfl (lv_iload_n hx hb dX3_readsCommand_207 rfl (lv_at hl 0 rfl) (lv_iconst (v := 1) hx hb dX3_readsCommand_208 rfl (lv_iadd hx hb dX3_readsCommand_209 k))))) ?_
        refine rk_callI hX (cl_V (rest := []) (av := [.int 3, .int ((5 * v11) + 1)]) C (hc_X3 H) (ct_X3_isNumber H a0 3 ((5 * v11) + 1)) (lw_V q3022 q3024 qs94 q112 q3025) ⟨rfl, hd_X3_isNumber⟩ ⟨(Nat.le_of_ble_eq_true rfl), (Nat.le_of_ble_eq_true rfl)⟩ rfl hl.1 rfl (zw_le zw_nil (Nat.le_of_ble_eq_true rfl)) dX3_readsCommand_210) (fun v210 => ?_)
        refine rk_grd (fun hg_213 => ?_)
        exact rk_top (rf_iret C (zn_Z hg_213) dX3_readsCommand_213)
      · refine rk_case (fun c_40_2 => ?_) (fun c_40_2 => ?_)
        · refine rk_of (fun _ _ _ _ _ k => by rw [c_40_2]; exact lv_tableIn (off := 118) (tgt := 158) hx hb dX3_readsCommand_40 (by decide) (by decide) rfl (by decide) k) ?_
          refine rk_of (fun _ _ _ _ _ k => lr_aload_n hx hb dX3_readsCommand_158 rfl (lv_at hl 1 rfl) (lv_iload_n hx hb dX3_readsCommand_159 rfl (lv_at hl 0 rfl) (lv_iconst (v := 1) hx hb dX3_readsCommand_160 rfl (lv_iadd hx hb dX3_readsCommand_161 k)))) ?_
          refine rk_callI hX (cl_V (rest := []) (av := [.int ((5 * v11) + 1)]) C (hc_X3 H) (ct_X3_isMoved H a0 ((5 * v11) + 1)) (lw_V q3030 q3032 qs96 q112 q3033) ⟨rfl, hd_X3_isMoved⟩ ⟨(Nat.le_of_ble_eq_true rfl), (Nat.le_of_ble_eq_true rfl)⟩ rfl hl.1 rfl (zw_le zw_nil (Nat.le_of_ble_eq_true rfl)) dX3_readsCommand_162) (fun v162 => ?_)
          refine rk_grd (fun hg_165 => ?_)
          exact rk_top (rf_iret C (zn_Z hg_165) dX3_readsCommand_165)
        · refine rk_case (fun c_40_3 => ?_) (fun c_40_3 => ?_)
          · refine rk_of (fun _ _ _ _ _ k => by rw [c_40_3]; exact lv_tableIn (off := 126) (tgt := 166) hx hb dX3_readsCommand_40 (by decide) (by decide) rfl (by decide) k) ?_
            refine rk_of (fun _ _ _ _ _ k => lr_aload_n hx hb dX3_readsCommand_166 rfl (lv_at hl 1 rfl) (lv_iconst (v := 3) hx hb dX3_readsCommand_167 rfl (lv_iload_n hx hb dX3_readsCommand_168 rfl (lv_at hl 0 rfl) (lv_iconst (v := 1) hx hb dX3_readsCommand_169 rfl (lv_iadd hx hb dX3_readsCommand_170 k))))) ?_
            refine rk_callI hX (cl_V (rest := []) (av := [.int 3, .int ((5 * v11) + 1)]) C (hc_X3 H) (ct_X3_isNumber H a0 3 ((5 * v11) + 1)) (lw_V q3022 q3024 qs94 q112 q3025) ⟨rfl, hd_X3_isNumber⟩ ⟨(Nat.le_of_ble_eq_true rfl), (Nat.le_of_ble_eq_true rfl)⟩ rfl hl.1 rfl (zw_le zw_nil (Nat.le_of_ble_eq_true rfl)) dX3_readsCommand_171) (fun v171 => ?_)
            refine rk_ite (fun _ _ _ _ _ k1 k2 => lv_if_eq (tgt := 201) hx hb dX3_readsCommand_174 (by decide) k1 k2) (fun c_174 => ?_) (fun c_174 => ?_)
            · refine rk_of (fun _ _ _ _ _ k => lv_iconst (v := 0) hx hb dX3_readsCommand_201 rfl k) ?_
              exact rk_top (rf_iret C rfl dX3_readsCommand_202)
            · refine rk_of (fun _ _ _ _ _ k => lr_aload_n hx hb dX3_readsCommand_177 rfl (lv_at hl 1 rfl) (lv_bipush (v := 32) hx hb dX3_readsCommand_178 rfl k)) ?_
              refine rk_callI hX (cl_V (rest := []) (av := [.int 32]) C (hc_X3 H) (ct_X3_isSign H a0 32) (lw_V q3018 q3020 qs93 q112 q3021) ⟨rfl, hd_X3_isSign⟩ ⟨(Nat.le_of_ble_eq_true rfl), (Nat.le_of_ble_eq_true rfl)⟩ rfl hl.1 rfl (zw_le zw_nil (Nat.le_of_ble_eq_true rfl)) dX3_readsCommand_180) (fun v180 => ?_)
              refine rk_ite (fun _ _ _ _ _ k1 k2 => lv_if_eq (tgt := 201) hx hb dX3_readsCommand_183 (by decide) k1 k2) (fun c_183 => ?_) (fun c_183 => ?_)
              · refine rk_of (fun _ _ _ _ _ k => lv_iconst (v := 0) hx hb dX3_readsCommand_201 rfl k) ?_
                exact rk_top (rf_iret C rfl dX3_readsCommand_202)
              · refine rk_of (fun _ _ _ _ _ k => lr_aload_n hx hb dX3_readsCommand_186 rfl (lv_at hl 1 rfl) (lv_iconst (v := 3) hx hb dX3_readsCommand_187 rfl (lv_iload_n hx hb dX3_readsCommand_188 rfl (lv_at hl 0 rfl) (lv_iconst (v := 2) hx hb dX3_readsCommand_189 rfl (lv_iadd hx hb dX3_readsCommand_190 k))))) ?_
                refine rk_callI hX (cl_V (rest := []) (av := [.int 3, .int ((5 * v11) + 2)]) C (hc_X3 H) (ct_X3_isNumber H a0 3 ((5 * v11) + 2)) (lw_V q3022 q3024 qs94 q112 q3025) ⟨rfl, hd_X3_isNumber⟩ ⟨(Nat.le_of_ble_eq_true rfl), (Nat.le_of_ble_eq_true rfl)⟩ rfl hl.1 rfl (zw_le zw_nil (Nat.le_of_ble_eq_true rfl)) dX3_readsCommand_191) (fun v191 => ?_)
                refine rk_ite (fun _ _ _ _ _ k1 k2 => lv_if_eq (tgt := 201) hx hb dX3_readsCommand_194 (by decide) k1 k2) (fun c_194 => ?_) (fun c_194 => ?_)
                · refine rk_of (fun _ _ _ _ _ k => lv_iconst (v := 0) hx hb dX3_readsCommand_201 rfl k) ?_
                  exact rk_top (rf_iret C rfl dX3_readsCommand_202)
                · refine rk_of (fun _ _ _ _ _ k => lv_iconst (v := 1) hx hb dX3_readsCommand_197 rfl (lv_goto (tgt := 202) hx hb dX3_readsCommand_198 (by decide) k)) ?_
                  exact rk_top (rf_iret C rfl dX3_readsCommand_202)
          · refine rk_case (fun c_40_4 => ?_) (fun c_40_4 => ?_)
            · refine rk_of (fun _ _ _ _ _ k => by rw [c_40_4]; exact lv_tableIn (off := 91) (tgt := 131) hx hb dX3_readsCommand_40 (by decide) (by decide) rfl (by decide) k) ?_
              refine rk_of (fun _ _ _ _ _ k => lr_aload_n hx hb dX3_readsCommand_131 rfl (lv_at hl 1 rfl) (lv_iconst (v := 1) hx hb dX3_readsCommand_132 rfl (lv_iload_n hx hb dX3_readsCommand_133 rfl (lv_at hl 0 rfl) (lv_iconst (v := 1) hx hb dX3_readsCommand_134 rfl (lv_iadd hx hb dX3_readsCommand_135 k))))) ?_
              refine rk_callI hX (cl_V (rest := []) (av := [.int 1, .int ((5 * v11) + 1)]) C (hc_X3 H) (ct_X3_isNumber H a0 1 ((5 * v11) + 1)) (lw_V q3022 q3024 qs94 q112 q3025) ⟨rfl, hd_X3_isNumber⟩ ⟨(Nat.le_of_ble_eq_true rfl), (Nat.le_of_ble_eq_true rfl)⟩ rfl hl.1 rfl (zw_le zw_nil (Nat.le_of_ble_eq_true rfl)) dX3_readsCommand_136) (fun v136 => ?_)
              refine rk_ite (fun _ _ _ _ _ k1 k2 => lv_if_eq (tgt := 156) hx hb dX3_readsCommand_139 (by decide) k1 k2) (fun c_139 => ?_) (fun c_139 => ?_)
              · refine rk_of (fun _ _ _ _ _ k => lv_iconst (v := 0) hx hb dX3_readsCommand_156 rfl k) ?_
                exact rk_top (rf_iret C rfl dX3_readsCommand_157)
              · refine rk_of (fun _ _ _ _ _ k => lr_aload_n hx hb dX3_readsCommand_142 rfl (lv_at hl 1 rfl) (lv_iload_n hx hb dX3_readsCommand_143 rfl (lv_at hl 0 rfl) (lv_iconst (v := 2) hx hb dX3_readsCommand_144 rfl (lv_iadd hx hb dX3_readsCommand_145 k)))) ?_
                refine rk_callI hX (cl_V (rest := []) (av := [.int ((5 * v11) + 2)]) C (hc_X3 H) (ct_X3_isSpan H a0 ((5 * v11) + 2)) (lw_V q3026 q3028 qs95 q112 q3029) ⟨rfl, hd_X3_isSpan⟩ ⟨(Nat.le_of_ble_eq_true rfl), (Nat.le_of_ble_eq_true rfl)⟩ rfl hl.1 rfl (zw_le zw_nil (Nat.le_of_ble_eq_true rfl)) dX3_readsCommand_146) (fun v146 => ?_)
                refine rk_ite (fun _ _ _ _ _ k1 k2 => lv_if_eq (tgt := 156) hx hb dX3_readsCommand_149 (by decide) k1 k2) (fun c_149 => ?_) (fun c_149 => ?_)
                · refine rk_of (fun _ _ _ _ _ k => lv_iconst (v := 0) hx hb dX3_readsCommand_156 rfl k) ?_
                  exact rk_top (rf_iret C rfl dX3_readsCommand_157)
                · refine rk_of (fun _ _ _ _ _ k => lv_iconst (v := 1) hx hb dX3_readsCommand_152 rfl (lv_goto (tgt := 157) hx hb dX3_readsCommand_153 (by decide) k)) ?_
                  exact rk_top (rf_iret C rfl dX3_readsCommand_157)
            · refine rk_case (fun c_40_5 => ?_) (fun c_40_5 => ?_)
              · refine rk_of (fun _ _ _ _ _ k => by rw [c_40_5]; exact lv_tableIn (off := 165) (tgt := 205) hx hb dX3_readsCommand_40 (by decide) (by decide) rfl (by decide) k) ?_
                refine rk_of (fun _ _ _ _ _ k => lr_aload_n hx hb dX3_readsCommand_205 rfl (lv_at hl 1 rfl) (lv_iconst (v := 3) hx hb dX3_readsCommand_206 rfl (lv_iload_n hx hb dX3_readsCommand_207 rfl (lv_at hl 0 rfl) (lv_iconst (v := 1) hx hb dX3_readsCommand_208 rfl (lv_iadd hx hb dX3_readsCommand_209 k))))) ?_
                refine rk_callI hX (cl_V (rest := []) (av := [.int 3, .int ((5 * v11) + 1)]) C (hc_X3 H) (ct_X3_isNumber H a0 3 ((5 * v11) + 1)) (lw_V q3022 q3024 qs94 q112 q3025) ⟨rfl, hd_X3_isNumber⟩ ⟨(Nat.le_of_ble_eq_true rfl), (Nat.le_of_ble_eq_true rfl)⟩ rfl hl.1 rfl (zw_le zw_nil (Nat.le_of_ble_eq_true rfl)) dX3_readsCommand_210) (fun v210 => ?_)
                refine rk_grd (fun hg_213 => ?_)
                exact rk_top (rf_iret C (zn_Z hg_213) dX3_readsCommand_213)
              · refine rk_case (fun c_40_6 => ?_) (fun c_40_6 => ?_)
                · refine rk_of (fun _ _ _ _ _ k => by rw [c_40_6]; exact lv_tableIn (off := 163) (tgt := 203) hx hb dX3_readsCommand_40 (by decide) (by decide) rfl (by decide) k) ?_
                  refine rk_of (fun _ _ _ _ _ k => lv_iconst (v := 1) hx hb dX3_readsCommand_203 rfl k) ?_
                  exact rk_top (rf_iret C rfl dX3_readsCommand_204)
                · have q_0 : (v37).toInt ≠ 0 := fun q => c_40_0 (zs_eq q rfl)
                  have q_1 : (v37).toInt ≠ 1 := fun q => c_40_1 (zs_eq q rfl)
                  have q_2 : (v37).toInt ≠ 2 := fun q => c_40_2 (zs_eq q rfl)
                  have q_3 : (v37).toInt ≠ 3 := fun q => c_40_3 (zs_eq q rfl)
                  have q_4 : (v37).toInt ≠ 4 := fun q => c_40_4 (zs_eq q rfl)
                  have q_5 : (v37).toInt ≠ 5 := fun q => c_40_5 (zs_eq q rfl)
                  have q_6 : (v37).toInt ≠ 6 := fun q => c_40_6 (zs_eq q rfl)
                  refine rk_of (fun _ _ _ _ _ k => lv_tableOut (tgt := 205) hx hb dX3_readsCommand_40 (by omega) (by decide) k) ?_
                  refine rk_of (fun _ _ _ _ _ k => lr_aload_n hx hb dX3_readsCommand_205 rfl (lv_at hl 1 rfl) (lv_iconst (v := 3) hx hb dX3_readsCommand_206 rfl (lv_iload_n hx hb dX3_readsCommand_207 rfl (lv_at hl 0 rfl) (lv_iconst (v := 1) hx hb dX3_readsCommand_208 rfl (lv_iadd hx hb dX3_readsCommand_209 k))))) ?_
                  refine rk_callI hX (cl_V (rest := []) (av := [.int 3, .int ((5 * v11) + 1)]) C (hc_X3 H) (ct_X3_isNumber H a0 3 ((5 * v11) + 1)) (lw_V q3022 q3024 qs94 q112 q3025) ⟨rfl, hd_X3_isNumber⟩ ⟨(Nat.le_of_ble_eq_true rfl), (Nat.le_of_ble_eq_true rfl)⟩ rfl hl.1 rfl (zw_le zw_nil (Nat.le_of_ble_eq_true rfl)) dX3_readsCommand_210) (fun v210 => ?_)
                  refine rk_grd (fun hg_213 => ?_)
                  exact rk_top (rf_iret C (zn_Z hg_213) dX3_readsCommand_213)
theorem hd_X3_isText : yX3_isText.cls ≠ "java/lang/invoke/MethodHandle" ∧ yX3_isText.cls ≠ "java/lang/invoke/VarHandle" ∧ (parseMethodDescriptor yX3_isText.desc).map (fun d => d.parameters.length) = some 0 := by decide +kernel
noncomputable def fn_X3_isText_15 (K : zm_K) (p0 : zm_R) : Nat → Int32 → zm_M (Int32)
  | 0, _ => zm_fl
  | n + 1, x1 =>
    if x1 = 0 then
      zm_ret x1
    else
      zm_bnd (zm_bnd (zm_is p0 20) fun _ => fn_X3_isSign K p0 59) fun v22 =>
      if v22 = 0 then
        zm_ret x1
      else
        zm_bnd (zm_bnd (zm_is p0 20) fun _ => fn_X3_readsCommand K p0) fun v29 =>
        fn_X3_isText_15 K p0 n v29
noncomputable def fn_X3_isText (K : zm_K) (a0 : zm_R) : zm_M Int32 :=
  zm_bnd (zm_putF K a0 20 20 (.int 0)) fun _ =>
  zm_bnd (zm_putF K a0 20 21 (.int 0)) fun _ =>
  zm_bnd (zm_bnd (zm_is a0 20) fun _ => fn_X3_readsCommand K a0) fun v11 =>
  zm_bnd (α := Int32) (fn_X3_isText_15 K a0 zm_N v11) fun b36 =>
  if b36 = 0 then
    zm_ret 0
  else
    zm_bnd (zm_getI a0 20 20) fun v41 =>
    zm_bnd (zm_getI a0 20 19) fun v45 =>
    if v41 = v45 then
      zm_ret 1
    else
      zm_ret 0
theorem rf_X3_isText_15 (H : zm_H Ω K) (C : zm_C p l R s m args meth c Ω lw_all cX3_isText yX3_isText.cls yX3_isText.name 2 7 193 (Option.some Jvm.ClassFile.FieldType.boolean)) (hX : zm_XO p l e R s m args below meth c Ω n0 k0 (zm_QFs below args s Ω n0 k0 zm_tvI)) (p0 : zm_R) : ∀ (n : Nat) (x1 : Int32) (J : (Int32) → zm_M Int32) (ls : Array Slot), lv_has ls 2 [(0, va_rf p0), (1, .int x1)] → (∀ (b : Int32) (ls : Array Slot), lv_has ls 2 [(0, va_rf p0), (1, .int b)] → zm_RK p l e R s m args below meth c Ω n0 k0 (zm_QFs below args s Ω n0 k0 zm_tvI) (zm_ret b) J (F0 m 36 ls [])) → zm_RK p l e R s m args below meth c Ω n0 k0 (zm_QFs below args s Ω n0 k0 zm_tvI) (fn_X3_isText_15 K p0 n x1) J (F0 m 15 ls []) := by
  have hx := C.1
  have hb := C.2.1
  intro n
  induction n with
  | zero => intro x1 J ls hl hJ; exact rk_fl
  | succ n ih =>
    intro x1 J ls hl hJ
    unfold fn_X3_isText_15
    refine rk_ite (fun _ _ _ _ _ k1 k2 => lv_iload_n hx hb dX3_isText_15 rfl (lv_at hl 1 rfl) (lv_if_eq (tgt := 36) hx hb dX3_isText_16 (by decide) k1 k2)) (fun c_16 => ?_) (fun c_16 => ?_)
    · exact hJ x1 ls (lv_sub hl [0, 1] rfl)
    · refine rk_of (fun _ _ _ _ _ k => lr_aload_n hx hb dX3_isText_19 rfl (lv_at hl 0 rfl) (lv_bipush (v := 59) hx hb dX3_isText_20 rfl k)) ?_
      refine rk_callI hX (cl_V (rest := []) (av := [.int 59]) C (hc_X3 H) (ct_X3_isSign H p0 59) (lw_V q3018 q3020 qs93 q112 q3021) ⟨rfl, hd_X3_isSign⟩ ⟨(Nat.le_of_ble_eq_true rfl), (Nat.le_of_ble_eq_true rfl)⟩ rfl hl.1 rfl (zw_le zw_nil (Nat.le_of_ble_eq_true rfl)) dX3_isText_22) (fun v22 => ?_)
      refine rk_ite (fun _ _ _ _ _ k1 k2 => lv_if_eq (tgt := 36) hx hb dX3_isText_25 (by decide) k1 k2) (fun c_25 => ?_) (fun c_25 => ?_)
      · exact hJ x1 ls (lv_sub hl [0, 1] rfl)
      · refine rk_of (fun _ _ _ _ _ k => lr_aload_n hx hb dX3_isText_28 rfl (lv_at hl 0 rfl) k) ?_
        refine rk_callI hX (cl_V (rest := []) (av := []) C (hc_X3 H) (ct_X3_readsCommand H p0) (lw_V q2994 q2996 qs90 q112 q2997) ⟨rfl, hd_X3_readsCommand⟩ ⟨(Nat.le_of_ble_eq_true rfl), (Nat.le_of_ble_eq_true rfl)⟩ rfl hl.1 rfl (zw_le zw_nil (Nat.le_of_ble_eq_true rfl)) dX3_isText_29) (fun v29 => ?_)
        refine rk_ofs (fun _ _ _ _ _ k => lr_istore_n hx hb dX3_isText_32 rfl hl (Nat.le_of_ble_eq_true rfl) [0] rfl ⟨va_rf_cat _, trivial⟩ k) (fun ls hl => ?_)
        refine rk_of (fun _ _ _ _ _ k => lv_goto (tgt := 15) hx hb dX3_isText_33 (by decide) k) ?_
        exact ih v29 J ls (lv_sub hl [1, 0] rfl) hJ
theorem ct_X3_isText {l : Launch} {Ω : zm_W} {K : zm_K} (H : zm_H Ω K) (a0 : zm_R) : zm_Ct l Ω yX3_isText (ws_ yX3_isText cX3_isText 2 (Option.some Jvm.ClassFile.FieldType.boolean)) 7 193 [va_rf a0] zm_tvI (fn_X3_isText K a0) := by
  refine zm_ct H.1 (by decide +kernel) (zl_le (zl_R zl_nil) (Nat.le_of_ble_eq_true rfl)) ?_
  intro p e R s m args below meth c n0 k0 C hX ls hl
  have hx := C.1
  have hb := C.2.1
  simp only [zg_R, zg_nil] at hl
  have hl : lv_has ls 2 [(0, va_rf a0)] := hl
  refine rk_rf ?_
  unfold fn_X3_isText
  refine rk_of (fun _ _ _ _ _ k => lr_aload_n hx hb dX3_isText_0 rfl (lv_at hl 0 rfl) (lv_iconst (v := 0) hx hb dX3_isText_1 rfl k)) ?_
  refine rk_put C H.2.2.1 (hc_X3 H) (k := 20) (Nat.le_of_ble_eq_true rfl) in_X3 (ty0 := tyX3) tyX3_ok nmX3 q2597 (fun _ h => h) (Or.inl rfl) rfl rfl dX3_isText_2 ?_
  refine rk_of (fun _ _ _ _ _ k => lr_aload_n hx hb dX3_isText_5 rfl (lv_at hl 0 rfl) (lv_iconst (v := 0) hx hb dX3_isText_6 rfl k)) ?_
  refine rk_put C H.2.2.1 (hc_X3 H) (k := 21) (Nat.le_of_ble_eq_true rfl) in_X3 (ty0 := tyX3) tyX3_ok nmX3 q2598 (fun _ h => h) (Or.inl rfl) rfl rfl dX3_isText_7 ?_
  refine rk_of (fun _ _ _ _ _ k => lr_aload_n hx hb dX3_isText_10 rfl (lv_at hl 0 rfl) k) ?_
  refine rk_callI hX (cl_V (rest := []) (av := []) C (hc_X3 H) (ct_X3_readsCommand H a0) (lw_V q2994 q2996 qs90 q112 q2997) ⟨rfl, hd_X3_readsCommand⟩ ⟨(Nat.le_of_ble_eq_true rfl), (Nat.le_of_ble_eq_true rfl)⟩ rfl hl.1 rfl (zw_le zw_nil (Nat.le_of_ble_eq_true rfl)) dX3_isText_11) (fun v11 => ?_)
  refine rk_ofs (fun _ _ _ _ _ k => lr_istore_n hx hb dX3_isText_14 rfl hl (Nat.le_of_ble_eq_true rfl) [0] rfl ⟨va_rf_cat _, trivial⟩ k) (fun ls hl => ?_)
  refine rk_join (β := Int32) (fun (b36 : Int32) ls => lv_has ls 2 [(0, va_rf a0), (1, .int b36)]) (fun (b36 : Int32) ls => F0 m 36 ls []) (fun b36 ls hl => ?_) (fun hJ36 => ?_)
  · refine rk_ite (fun _ _ _ _ _ k1 k2 => lv_iload_n hx hb dX3_isText_36 rfl (lv_at hl 1 rfl) (lv_if_eq (tgt := 55) hx hb dX3_isText_37 (by decide) k1 k2)) (fun c_37 => ?_) (fun c_37 => ?_)
    · refine rk_of (fun _ _ _ _ _ k => lv_iconst (v := 0) hx hb dX3_isText_55 rfl k) ?_
      exact rk_top (rf_iret C rfl dX3_isText_56)
    · refine rk_of (fun _ _ _ _ _ k => lr_aload_n hx hb dX3_isText_40 rfl (lv_at hl 0 rfl) k) ?_
      refine rk_get zm_rdI_eq C (hc_X3 H) (k := 20) (Nat.le_of_ble_eq_true rfl) in_X3 q2597 (fun _ h => h) dX3_isText_41 (fun v41 => ?_)
      refine rk_of (fun _ _ _ _ _ k => lr_aload_n hx hb dX3_isText_44 rfl (lv_at hl 0 rfl) k) ?_
      refine rk_get zm_rdI_eq C (hc_X3 H) (k := 19) (Nat.le_of_ble_eq_true rfl) in_X3 q2596 (fun _ h => h) dX3_isText_45 (fun v45 => ?_)
      refine rk_ite (fun _ _ _ _ _ k1 k2 => lv_icmp_ne (tgt := 55) hx hb dX3_isText_48 (by decide) k2 k1) (fun c_48 => ?_) (fun c_48 => ?_)
      · refine rk_of (fun _ _ _ _ _ k => lv_iconst (v := 1) hx hb dX3_isText_51 rfl (lv_goto (tgt := 56) hx hb dX3_isText_52 (by decide) k)) ?_
        exact rk_top (rf_iret C rfl dX3_isText_56)
      · refine rk_of (fun _ _ _ _ _ k => lv_iconst (v := 0) hx hb dX3_isText_55 rfl k) ?_
        exact rk_top (rf_iret C rfl dX3_isText_56)
  · exact rf_X3_isText_15 H C hX a0 zm_N v11 _ ls (lv_sub hl [1, 0] rfl) hJ36
theorem hd_X3_joins : yX3_joins.cls ≠ "java/lang/invoke/MethodHandle" ∧ yX3_joins.cls ≠ "java/lang/invoke/VarHandle" ∧ (parseMethodDescriptor yX3_joins.desc).map (fun d => d.parameters.length) = some 2 := by decide +kernel
noncomputable def fn_X3_joins (K : zm_K) (a0 : zm_R) (a1 : Int32) (a2 : Int32) : zm_M Int32 :=
  zm_bnd (zm_bnd (zm_is a0 20) fun _ => fn_X3_isRefusedAsOver K a0 a1) fun v2 =>
  if v2 = 0 then
    zm_bnd (zm_bnd (zm_is a0 20) fun _ => fn_X3_isRefusedAsOver K a0 a2) fun v10 =>
    if v10 = 0 then
      zm_bnd (zm_bnd (zm_is a0 20) fun _ => fn_X3_ofLetting K a0 a1 0) fun v21 =>
      zm_bnd (zm_bnd (zm_is a0 20) fun _ => fn_X3_ofLetting K a0 a2 0) fun v27 =>
      zm_bnd (α := Int32) (
          if v21 = v27 then
            zm_bnd (zm_bnd (zm_is a0 20) fun _ => fn_X3_ofLetting K a0 a1 3) fun v36 =>
            zm_bnd (zm_bnd (zm_is a0 20) fun _ => fn_X3_ofLetting K a0 a2 3) fun v42 =>
            if v36 = v42 then
              zm_ret 0
            else
              zm_ret 1
          else
            zm_ret 1
        ) fun b53 =>
      zm_bnd (zm_bnd (zm_is a0 20) fun _ => fn_X3_ofLetting K a0 a2 1) fun v57 =>
      zm_bnd (zm_bnd (zm_is a0 20) fun _ => fn_X3_ofLetting K a0 a1 2) fun v63 =>
      zm_bnd (zm_bnd (zm_is a0 20) fun _ => fn_X3_ofLetting K a0 a1 1) fun v70 =>
      zm_bnd (zm_bnd (zm_is a0 20) fun _ => fn_X3_ofLetting K a0 a2 2) fun v76 =>
      zm_bnd (fn_X3_greater K (v57 - v63) (v70 - v76)) fun v80 =>
      zm_bnd (zm_bnd (zm_is a0 20) fun _ => fn_X3_ofLetting K a0 a2 0) fun v92 =>
      zm_bnd (zm_bnd (zm_is a0 20) fun _ => fn_X3_isRefused K a0 b53 7 v92) fun v95 =>
      if v95 = 0 then
        zm_bnd (α := Int32) (
            if v80 ≤ 0 then
              zm_ret 0
            else
              zm_ret 1
          ) fun b112 =>
        zm_bnd (zm_bnd (zm_is a0 20) fun _ => fn_X3_isRefused K a0 b112 8 v80) fun v116 =>
        if v116 = 0 then
          zm_bnd (zm_getR a0 20 0) fun v125 =>
          zm_bnd (fn_X3_lettingAt K a1 1) fun v130 =>
          zm_bnd (zm_bnd (zm_is a0 20) fun _ => fn_X3_ofLetting K a0 a1 1) fun v136 =>
          zm_bnd (zm_bnd (zm_is a0 20) fun _ => fn_X3_ofLetting K a0 a2 1) fun v142 =>
          zm_bnd (fn_X3_lesser K v136 v142) fun v145 =>
          zm_bnd (zm_astI K .int v125 v130 v145) fun _ =>
          zm_bnd (zm_getR a0 20 0) fun v150 =>
          zm_bnd (fn_X3_lettingAt K a1 2) fun v155 =>
          zm_bnd (zm_bnd (zm_is a0 20) fun _ => fn_X3_ofLetting K a0 a1 2) fun v161 =>
          zm_bnd (zm_bnd (zm_is a0 20) fun _ => fn_X3_ofLetting K a0 a2 2) fun v167 =>
          zm_bnd (fn_X3_greater K v161 v167) fun v170 =>
          zm_bnd (zm_astI K .int v150 v155 v170) fun _ =>
          zm_bnd (zm_getR a0 20 0) fun v175 =>
          zm_bnd (fn_X3_lettingAt K a2 4) fun v180 =>
          zm_bnd (zm_astI K .int v175 v180 1) fun _ =>
          zm_bnd (zm_getR a0 20 0) fun v186 =>
          zm_bnd (zm_aldI .int v186 5) fun v191 =>
          zm_bnd (zm_astI K .int v186 5 (v191 + 1)) fun _ =>
          zm_bnd (zm_bnd (zm_is a0 20) fun _ => fn_X3_minutesOf K a0 a1) fun v197 =>
          zm_ret v197
        else
          zm_ret 0
      else
        zm_ret 0
    else
      zm_ret 0
  else
    zm_ret 0
theorem ct_X3_joins {l : Launch} {Ω : zm_W} {K : zm_K} (H : zm_H Ω K) (a0 : zm_R) (a1 : Int32) (a2 : Int32) : zm_Ct l Ω yX3_joins (ws_ yX3_joins cX3_joins 5 (Option.some Jvm.ClassFile.FieldType.int)) 5 149 [va_rf a0, .int a1, .int a2] zm_tvI (fn_X3_joins K a0 a1 a2) := by
  refine zm_ct H.1 (by decide +kernel) (zl_le (zl_R (zl_I (zl_I zl_nil))) (Nat.le_of_ble_eq_true rfl)) ?_
  intro p e R s m args below meth c n0 k0 C hX ls hl
  have hx := C.1
  have hb := C.2.1
  simp only [zg_I, zg_R, zg_nil] at hl
  have hl : lv_has ls 5 [(0, va_rf a0), (1, .int a1), (2, .int a2)] := hl
  refine rk_rf ?_
  unfold fn_X3_joins
  refine rk_of (fun _ _ _ _ _ k => lr_aload_n hx hb dX3_joins_0 rfl (lv_at hl 0 rfl) (lv_iload_n hx hb dX3_joins_1 rfl (lv_at hl 1 rfl) k)) ?_
  refine rk_callI hX (cl_V (rest := []) (av := [.int a1]) C (hc_X3 H) (ct_X3_isRefusedAsOver H a0 a1) (lw_V q2730 q2732 qs58 q112 q2733) ⟨rfl, hd_X3_isRefusedAsOver⟩ ⟨(Nat.le_of_ble_eq_true rfl), (Nat.le_of_ble_eq_true rfl)⟩ rfl hl.1 rfl (zw_le zw_nil (Nat.le_of_ble_eq_true rfl)) dX3_joins_2) (fun v2 => ?_)
  refine rk_ite (fun _ _ _ _ _ k1 k2 => lv_if_ne (tgt := 16) hx hb dX3_joins_5 (by decide) k2 k1) (fun c_5 => ?_) (fun c_5 => ?_)
  · refine rk_of (fun _ _ _ _ _ k => lr_aload_n hx hb dX3_joins_8 rfl (lv_at hl 0 rfl) (lv_iload_n hx hb dX3_joins_9 rfl (lv_at hl 2 rfl) k)) ?_
    refine rk_callI hX (cl_V (rest := []) (av := [.int a2]) C (hc_X3 H) (ct_X3_isRefusedAsOver H a0 a2) (lw_V q2730 q2732 qs58 q112 q2733) ⟨rfl, hd_X3_isRefusedAsOver⟩ ⟨(Nat.le_of_ble_eq_true rfl), (Nat.le_of_ble_eq_true rfl)⟩ rfl hl.1 rfl (zw_le zw_nil (Nat.le_of_ble_eq_true rfl)) dX3_joins_10) (fun v10 => ?_)
    refine rk_ite (fun _ _ _ _ _ k1 k2 => lv_if_eq (tgt := 18) hx hb dX3_joins_13 (by decide) k1 k2) (fun c_13 => ?_) (fun c_13 => ?_)
    · refine rk_of (fun _ _ _ _ _ k => lr_aload_n hx hb dX3_joins_18 rfl (lv_at hl 0 rfl) (lv_iload_n hx hb dX3_joins_19 rfl (lv_at hl 1 rfl) (lv_iconst (v := 0) hx hb dX3_joins_20 rfl k))) ?_
      refine rk_callI hX (cl_V (rest := []) (av := [.int a1, .int 0]) C (hc_X3 H) (ct_X3_ofLetting H a0 a1 0) (lw_V q2707 q2709 qs54 q112 q2710) ⟨rfl, hd_X3_ofLetting⟩ ⟨(Nat.le_of_ble_eq_true rfl), (Nat.le_of_ble_eq_true rfl)⟩ rfl hl.1 rfl (zw_le zw_nil (Nat.le_of_ble_eq_true rfl)) dX3_joins_21) (fun v21 => ?_)
      refine rk_of (fun _ _ _ _ _ k => lr_aload_n hx hb dX3_joins_24 rfl (lv_at hl 0 rfl) (lv_iload_n hx hb dX3_joins_25 rfl (lv_at hl 2 rfl) (lv_iconst (v := 0) hx hb dX3_joins_26 rfl k))) ?_
      refine rk_callI hX (cl_V (rest := [.int v21]) (av := [.int a2, .int 0]) C (hc_X3 H) (ct_X3_ofLetting H a0 a2 0) (lw_V q2707 q2709 qs54 q112 q2710) ⟨rfl, hd_X3_ofLetting⟩ ⟨(Nat.le_of_ble_eq_true rfl), (Nat.le_of_ble_eq_true rfl)⟩ rfl hl.1 rfl (zw_le (zw_I zw_nil) (Nat.le_of_ble_eq_true rfl)) dX3_joins_27) (fun v27 => ?_)
      refine rk_join (β := Int32) (fun (b53 : Int32) ls => lv_has ls 5 [(0, va_rf a0), (1, .int a1), (2, .int a2)]) (fun (b53 : Int32) ls => F0 m 53 ls [.int b53]) (fun b53 ls hl => ?_) (fun hJ53 => ?_)
      · refine rk_ofs (fun _ _ _ _ _ k => lr_istore_n hx hb dX3_joins_53 rfl hl (Nat.le_of_ble_eq_true rfl) [0, 1, 2] rfl ⟨trivial, ⟨trivial, ⟨rfl, trivial⟩⟩⟩ k) (fun ls hl => ?_)
        refine rk_of (fun _ _ _ _ _ k => lr_aload_n hx hb dX3_joins_54 rfl (lv_at hl 1 rfl) (lv_iload_n hx hb dX3_joins_55 rfl (lv_at hl 3 rfl) (lv_iconst (v := 1) hx hb dX3_joins_56 rfl k))) ?_
        refine rk_callI hX (cl_V (rest := []) (av := [.int a2, .int 1]) C (hc_X3 H) (ct_X3_ofLetting H a0 a2 1) (lw_V q2707 q2709 qs54 q112 q2710) ⟨rfl, hd_X3_ofLetting⟩ ⟨(Nat.le_of_ble_eq_true rfl), (Nat.le_of_ble_eq_true rfl)⟩ rfl hl.1 rfl (zw_le zw_nil (Nat.le_of_ble_eq_true rfl)) dX3_joins_57) (fun v57 => ?_)
        refine rk_of (fun _ _ _ _ _ k => lr_aload_n hx hb dX3_joins_60 rfl (lv_at hl 1 rfl) (lv_iload_n hx hb dX3_joins_61 rfl (lv_at hl 2 rfl) (lv_iconst (v := 2) hx hb dX3_joins_62 rfl k))) ?_
        refine rk_callI hX (cl_V (rest := [.int v57]) (av := [.int a1, .int 2]) C (hc_X3 H) (ct_X3_ofLetting H a0 a1 2) (lw_V q2707 q2709 qs54 q112 q2710) ⟨rfl, hd_X3_ofLetting⟩ ⟨(Nat.le_of_ble_eq_true rfl), (Nat.le_of_ble_eq_true rfl)⟩ rfl hl.1 rfl (zw_le (zw_I zw_nil) (Nat.le_of_ble_eq_true rfl)) dX3_joins_63) (fun v63 => ?_)
        refine rk_of (fun _ _ _ _ _ k => lv_isub hx hb dX3_joins_66 (lr_aload_n hx hb dX3_joins_67 rfl (lv_at hl 1 rfl) (lv_iload_n hx hb dX3_joins_68 rfl (lv_at hl 2 rfl) (lv_iconst (v := 1) hx hb dX3_joins_69 rfl k)))) ?_
        refine rk_callI hX (cl_V (rest := [.int (v57 - v63)]) (av := [.int a1, .int 1]) C (hc_X3 H) (ct_X3_ofLetting H a0 a1 1) (lw_V q2707 q2709 qs54 q112 q2710) ⟨rfl, hd_X3_ofLetting⟩ ⟨(Nat.le_of_ble_eq_true rfl), (Nat.le_of_ble_eq_true rfl)⟩ rfl hl.1 rfl (zw_le (zw_I zw_nil) (Nat.le_of_ble_eq_true rfl)) dX3_joins_70) (fun v70 => ?_)
        refine rk_of (fun _ _ _ _ _ k => lr_aload_n hx hb dX3_joins_73 rfl (lv_at hl 1 rfl) (lv_iload_n hx hb dX3_joins_74 rfl (lv_at hl 3 rfl) (lv_iconst (v := 2) hx hb dX3_joins_75 rfl k))) ?_
        refine rk_callI hX (cl_V (rest := [.int v70, .int (v57 - v63)]) (av := [.int a2, .int 2]) C (hc_X3 H) (ct_X3_ofLetting H a0 a2 2) (lw_V q2707 q2709 qs54 q112 q2710) ⟨rfl, hd_X3_ofLetting⟩ ⟨(Nat.le_of_ble_eq_true rfl), (Nat.le_of_ble_eq_true rfl)⟩ rfl hl.1 rfl (zw_le (zw_I (zw_I zw_nil)) (Nat.le_of_ble_eq_true rfl)) dX3_joins_76) (fun v76 => ?_)
        refine rk_of (fun _ _ _ _ _ k => lv_isub hx hb dX3_joins_79 k) ?_
        refine rk_callI hX (cl_S (rest := []) C (ct_X3_greater H (v57 - v63) (v70 - v76)) (lw_S q2756 q2757 q112 q2758) hd_X3_greater ⟨(Nat.le_of_ble_eq_true rfl), (Nat.le_of_ble_eq_true rfl)⟩ rfl hl.1 rfl (zw_le zw_nil (Nat.le_of_ble_eq_true rfl)) dX3_joins_80) (fun v80 => ?_)
        refine rk_ofs (fun _ _ _ _ _ k => lr_istore hx hb dX3_joins_83 hl (Nat.le_of_ble_eq_true rfl) [0, 1, 2, 3] rfl ⟨rfl, ⟨trivial, ⟨trivial, ⟨trivial, trivial⟩⟩⟩⟩ k) (fun ls hl => ?_)
        refine rk_of (fun _ _ _ _ _ k => lr_aload_n hx hb dX3_joins_85 rfl (lv_at hl 2 rfl) (lv_iload_n hx hb dX3_joins_86 rfl (lv_at hl 1 rfl) (lv_bipush (v := 7) hx hb dX3_joins_87 rfl (lr_aload_n hx hb dX3_joins_89 rfl (lv_at hl 2 rfl) (lv_iload_n hx hb dX3_joins_90 rfl (lv_at hl 4 rfl) (lv_iconst (v := 0) hx hb dX3_joins_91 rfl k)))))) ?_
        refine rk_callI hX (cl_V (rest := [.int 7, .int b53, va_rf a0]) (av := [.int a2, .int 0]) C (hc_X3 H) (ct_X3_ofLetting H a0 a2 0) (lw_V q2707 q2709 qs54 q112 q2710) ⟨rfl, hd_X3_ofLetting⟩ ⟨(Nat.le_of_ble_eq_true rfl), (Nat.le_of_ble_eq_true rfl)⟩ rfl hl.1 rfl (zw_le (zw_I (zw_I (zw_R zw_nil))) (Nat.le_of_ble_eq_true rfl)) dX3_joins_92) (fun v92 => ?_)
        refine rk_callI hX (cl_V (rest := []) (av := [.int b53, .int 7, .int v92]) C (hc_X3 H) (ct_X3_isRefused H a0 b53 7 v92) (lw_V q2669 q2671 qs47 q112 q2672) ⟨rfl, hd_X3_isRefused⟩ ⟨(Nat.le_of_ble_eq_true rfl), (Nat.le_of_ble_eq_true rfl)⟩ rfl hl.1 rfl (zw_le zw_nil (Nat.le_of_ble_eq_true rfl)) dX3_joins_95) (fun v95 => ?_)
        refine rk_ite (fun _ _ _ _ _ k1 k2 => lv_if_ne (tgt := 122) hx hb dX3_joins_98 (by decide) k2 k1) (fun c_98 => ?_) (fun c_98 => ?_)
        · refine rk_of (fun _ _ _ _ _ k => lr_aload_n hx hb dX3_joins_101 rfl (lv_at hl 2 rfl) (lv_iload hx hb dX3_joins_102 (lv_at hl 0 rfl) k)) ?_
          refine rk_join (β := Int32) (fun (b112 : Int32) ls => lv_has ls 5 [(0, va_rf a0), (1, .int a1), (2, .int a2), (4, .int v80)]) (fun (b112 : Int32) ls => F0 m 112 ls [.int b112, va_rf a0]) (fun b112 ls hl => ?_) (fun hJ112 => ?_)
          · refine rk_of (fun _ _ _ _ _ k => lv_bipush (v := 8) hx hb dX3_joins_112 rfl (lv_iload hx hb dX3_joins_114 (lv_at hl 3 rfl) k)) ?_
            refine rk_callI hX (cl_V (rest := []) (av := [.int b112, .int 8, .int v80]) C (hc_X3 H) (ct_X3_isRefused H a0 b112 8 v80) (lw_V q2669 q2671 qs47 q112 q2672) ⟨rfl, hd_X3_isRefused⟩ ⟨(Nat.le_of_ble_eq_true rfl), (Nat.le_of_ble_eq_true rfl)⟩ rfl hl.1 rfl (zw_le zw_nil (Nat.le_of_ble_eq_true rfl)) dX3_joins_116) (fun v116 => ?_)
            refine rk_ite (fun _ _ _ _ _ k1 k2 => lv_if_eq (tgt := 124) hx hb dX3_joins_119 (by decide) k1 k2) (fun c_119 => ?_) (fun c_119 => ?_)
            · refine rk_of (fun _ _ _ _ _ k => lr_aload_n hx hb dX3_joins_124 rfl (lv_at hl 0 rfl) k) ?_
              refine rk_get zm_rdR_eq C (hc_X3 H) (k := 0) (Nat.le_of_ble_eq_true rfl) in_X3 q2577 (fun _ h => h) dX3_joins_125 (fun v125 => ?_)
              refine rk_of (fun _ _ _ _ _ k => lv_iload_n hx hb dX3_joins_128 rfl (lv_at hl 1 rfl) (lv_iconst (v := 1) hx hb dX3_joins_129 rfl k)) ?_
              refine rk_callI hX (cl_S (rest := [va_rf v125]) C (ct_X3_lettingAt H a1 1) (lw_S q2711 q2712 q112 q2713) hd_X3_lettingAt ⟨(Nat.le_of_ble_eq_true rfl), (Nat.le_of_ble_eq_true rfl)⟩ rfl hl.1 rfl (zw_le (zw_R zw_nil) (Nat.le_of_ble_eq_true rfl)) dX3_joins_130) (fun v130 => ?_)
              refine rk_of (fun _ _ _ _ _ k => lr_aload_n hx hb dX3_joins_133 rfl (lv_at hl 0 rfl) (lv_iload_n hx hb dX3_joins_134 rfl (lv_at hl 1 rfl) (lv_iconst (v := 1) hx hb dX3_joins_135 rfl k))) ?_
              refine rk_callI hX (cl_V (rest := [.int v130, va_rf v125]) (av := [.int a1, .int 1]) C (hc_X3 H) (ct_X3_ofLetting H a0 a1 1) (lw_V q2707 q2709 qs54 q112 q2710) ⟨rfl, hd_X3_ofLetting⟩ ⟨(Nat.le_of_ble_eq_true rfl), (Nat.le_of_ble_eq_true rfl)⟩ rfl hl.1 rfl (zw_le (zw_I (zw_R zw_nil)) (Nat.le_of_ble_eq_true rfl)) dX3_joins_136) (fun v136 => ?_)
              refine rk_of (fun _ _ _ _ _ k => lr_aload_n hx hb dX3_joins_139 rfl (lv_at hl 0 rfl) (lv_iload_n hx hb dX3_joins_140 rfl (lv_at hl 2 rfl) (lv_iconst (v := 1) hx hb dX3_joins_141 rfl k))) ?_
              refine rk_callI hX (cl_V (rest := [.int v136, .int v130, va_rf v125]) (av := [.int a2, .int 1]) C (hc_X3 H) (ct_X3_ofLetting H a0 a2 1) (lw_V q2707 q2709 qs54 q112 q2710) ⟨rfl, hd_X3_ofLetting⟩ ⟨(Nat.le_of_ble_eq_true rfl), (Nat.le_of_ble_eq_true rfl)⟩ rfl hl.1 rfl (zw_le (zw_I (zw_I (zw_R zw_nil))) (Nat.le_of_ble_eq_true rfl)) dX3_joins_142) (fun v142 => ?_)
              refine rk_callI hX (cl_S (rest := [.int v130, va_rf v125]) C (ct_X3_lesser H v136 v142) (lw_S q2753 q2754 q112 q2755) hd_X3_lesser ⟨(Nat.le_of_ble_eq_true rfl), (Nat.le_of_ble_eq_true rfl)⟩ rfl hl.1 rfl (zw_le (zw_I (zw_R zw_nil)) (Nat.le_of_ble_eq_true rfl)) dX3_joins_145) (fun v145 => ?_)
              refine rk_iast C H.2.2.1 dX3_joins_148 ?_
              refine rk_of (fun _ _ _ _ _ k => lr_aload_n hx hb dX3_joins_149 rfl (lv_at hl 0 rfl) k) ?_
              refine rk_get zm_rdR_eq C (hc_X3 H) (k := 0) (Nat.le_of_ble_eq_true rfl) in_X3 q2577 (fun _ h => h) dX3_joins_150 (fun v150 => ?_)
              refine rk_of (fun _ _ _ _ _ k => lv_iload_n hx hb dX3_joins_153 rfl (lv_at hl 1 rfl) (lv_iconst (v := 2) hx hb dX3_joins_154 rfl k)) ?_
              refine rk_callI hX (cl_S (rest := [va_rf v150]) C (ct_X3_lettingAt H a1 2) (lw_S q2711 q2712 q112 q2713) hd_X3_lettingAt ⟨(Nat.le_of_ble_eq_true rfl), (Nat.le_of_ble_eq_true rfl)⟩ rfl hl.1 rfl (zw_le (zw_R zw_nil) (Nat.le_of_ble_eq_true rfl)) dX3_joins_155) (fun v155 => ?_)
              refine rk_of (fun _ _ _ _ _ k => lr_aload_n hx hb dX3_joins_158 rfl (lv_at hl 0 rfl) (lv_iload_n hx hb dX3_joins_159 rfl (lv_at hl 1 rfl) (lv_iconst (v := 2) hx hb dX3_joins_160 rfl k))) ?_
              refine rk_callI hX (cl_V (rest := [.int v155, va_rf v150]) (av := [.int a1, .int 2]) C (hc_X3 H) (ct_X3_ofLetting H a0 a1 2) (lw_V q2707 q2709 qs54 q112 q2710) ⟨rfl, hd_X3_ofLetting⟩ ⟨(Nat.le_of_ble_eq_true rfl), (Nat.le_of_ble_eq_true rfl)⟩ rfl hl.1 rfl (zw_le (zw_I (zw_R zw_nil)) (Nat.le_of_ble_eq_true rfl)) dX3_joins_161) (fun v161 => ?_)
              refine rk_of (fun _ _ _ _ _ k => lr_aload_n hx hb dX3_joins_164 rfl (lv_at hl 0 rfl) (lv_iload_n hx hb dX3_joins_165 rfl (lv_at hl 2 rfl) (lv_iconst (v := 2) hx hb dX3_joins_166 rfl k))) ?_
              refine rk_callI hX (cl_V (rest := [.int v161, .int v155, va_rf v150]) (av := [.int a2, .int 2]) C (hc_X3 H) (ct_X3_ofLetting H a0 a2 2) (lw_V q2707 q2709 qs54 q112 q2710) ⟨rfl, hd_X3_ofLetting⟩ ⟨(Nat.le_of_ble_eq_true rfl), (Nat.le_of_ble_eq_true rfl)⟩ rfl hl.1 rfl (zw_le (zw_I (zw_I (zw_R zw_nil))) (Nat.le_of_ble_eq_true rfl)) dX3_joins_167) (fun v167 => ?_)
              refine rk_callI hX (cl_S (rest := [.int v155, va_rf v150]) C (ct_X3_greater H v161 v167) (lw_S q2756 q2757 q112 q2758) hd_X3_greater ⟨(Nat.le_of_ble_eq_true rfl), (Nat.le_of_ble_eq_true rfl)⟩ rfl hl.1 rfl (zw_le (zw_I (zw_R zw_nil)) (Nat.le_of_ble_eq_true rfl)) dX3_joins_170) (fun v170 => ?_)
              refine rk_iast C H.2.2.1 dX3_joins_173 ?_
              refine rk_of (fun _ _ _ _ _ k => lr_aload_n hx hb dX3_joins_174 rfl (lv_at hl 0 rfl) k) ?_
              refine rk_get zm_rdR_eq C (hc_X3 H) (k := 0) (Nat.le_of_ble_eq_true rfl) in_X3 q2577 (fun _ h => h) dX3_joins_175 (fun v175 => ?_)
              refine rk_of (fun _ _ _ _ _ k => lv_iload_n hx hb dX3_joins_178 rfl (lv_at hl 2 rfl) (lv_iconst (v := 4) hx hb dX3_joins_179 rfl k)) ?_
              refine rk_callI hX (cl_S (rest := [va_rf v175]) C (ct_X3_lettingAt H a2 4) (lw_S q2711 q2712 q112 q2713) hd_X3_lettingAt ⟨(Nat.le_of_ble_eq_true rfl), (Nat.le_of_ble_eq_true rfl)⟩ rfl hl.1 rfl (zw_le (zw_R zw_nil) (Nat.le_of_ble_eq_true rfl)) dX3_joins_180) (fun v180 => ?_)
              refine rk_of (fun _ _ _ _ _ k => lv_iconst (v := 1) hx hb dX3_joins_183 rfl k) ?_
              refine rk_iast C H.2.2.1 dX3_joins_184 ?_
              refine rk_of (fun _ _ _ _ _ k => lr_aload_n hx hb dX3_joins_185 rfl (lv_at hl 0 rfl) k) ?_
              refine rk_get zm_rdR_eq C (hc_X3 H) (k := 0) (Nat.le_of_ble_eq_true rfl) in_X3 q2577 (fun _ h => h) dX3_joins_186 (fun v186 => ?_)
              refine rk_of (fun _ _ _ _ _ k => lv_iconst (v := 5) hx hb dX3_joins_189 rfl (lv_dup2_11 hx hb dX3_joins_190 rfl (va_rf_cat _) k)) ?_
              refine rk_iald C dX3_joins_191 (fun v191 => ?_)
              refine rk_of (fun _ _ _ _ _ k => lv_iconst (v := 1) hx hb dX3_joins_192 rfl (lv_iadd hx hb dX3_joins_193 k)) ?_
              refine rk_iast C H.2.2.1 dX3_joins_194 ?_
              refine rk_of (fun _ _ _ _ _ k => lr_aload_n hx hb dX3_joins_195 rfl (lv_at hl 0 rfl) (lv_iload_n hx hb dX3_joins_196 rfl (lv_at hl 1 rfl) k)) ?_
              refine rk_callI hX (cl_V (rest := []) (av := [.int a1]) C (hc_X3 H) (ct_X3_minutesOf H a0 a1) (lw_V q2738 q2740 qs60 q112 q2741) ⟨rfl, hd_X3_minutesOf⟩ ⟨(Nat.le_of_ble_eq_true rfl), (Nat.le_of_ble_eq_true rfl)⟩ rfl hl.1 rfl (zw_le zw_nil (Nat.le_of_ble_eq_true rfl)) dX3_joins_197) (fun v197 => ?_)
              exact rk_top (rf_iret C rfl dX3_joins_200)
            · refine rk_of (fun _ _ _ _ _ k => lv_iconst (v := 0) hx hb dX3_joins_122 rfl k) ?_
              exact rk_top (rf_iret C rfl dX3_joins_123)
          · refine rk_ite (fun _ _ _ _ _ k1 k2 => lv_if_le (tgt := 111) hx hb dX3_joins_104 (by decide) k1 k2) (fun c_104 => ?_) (fun c_104 => ?_)
            · refine rk_of (fun _ _ _ _ _ k => lv_iconst (v := 0) hx hb dX3_joins_111 rfl k) ?_
              exact hJ112 0 ls (lv_sub hl [2, 3, 4, 0] rfl)
            · refine rk_of (fun _ _ _ _ _ k => lv_iconst (v := 1) hx hb dX3_joins_107 rfl (lv_goto (tgt := 112) hx hb dX3_joins_108 (by decide) k)) ?_
              exact hJ112 1 ls (lv_sub hl [2, 3, 4, 0] rfl)
        · refine rk_of (fun _ _ _ _ _ k => lv_iconst (v := 0) hx hb dX3_joins_122 rfl k) ?_
          exact rk_top (rf_iret C rfl dX3_joins_123)
      · refine rk_ite (fun _ _ _ _ _ k1 k2 => lv_icmp_ne (tgt := 48) hx hb dX3_joins_30 (by decide) k2 k1) (fun c_30 => ?_) (fun c_30 => ?_)
        · refine rk_of (fun _ _ _ _ _ k => lr_aload_n hx hb dX3_joins_33 rfl (lv_at hl 0 rfl) (lv_iload_n hx hb dX3_joins_34 rfl (lv_at hl 1 rfl) (lv_iconst (v := 3) hx hb dX3_joins_35 rfl k))) ?_
          refine rk_callI hX (cl_V (rest := []) (av := [.int a1, .int 3]) C (hc_X3 H) (ct_X3_ofLetting H a0 a1 3) (lw_V q2707 q2709 qs54 q112 q2710) ⟨rfl, hd_X3_ofLetting⟩ ⟨(Nat.le_of_ble_eq_true rfl), (Nat.le_of_ble_eq_true rfl)⟩ rfl hl.1 rfl (zw_le zw_nil (Nat.le_of_ble_eq_true rfl)) dX3_joins_36) (fun v36 => ?_)
          refine rk_of (fun _ _ _ _ _ k => lr_aload_n hx hb dX3_joins_39 rfl (lv_at hl 0 rfl) (lv_iload_n hx hb dX3_joins_40 rfl (lv_at hl 2 rfl) (lv_iconst (v := 3) hx hb dX3_joins_41 rfl k))) ?_
          refine rk_callI hX (cl_V (rest := [.int v36]) (av := [.int a2, .int 3]) C (hc_X3 H) (ct_X3_ofLetting H a0 a2 3) (lw_V q2707 q2709 qs54 q112 q2710) ⟨rfl, hd_X3_ofLetting⟩ ⟨(Nat.le_of_ble_eq_true rfl), (Nat.le_of_ble_eq_true rfl)⟩ rfl hl.1 rfl (zw_le (zw_I zw_nil) (Nat.le_of_ble_eq_true rfl)) dX3_joins_42) (fun v42 => ?_)
          refine rk_ite (fun _ _ _ _ _ k1 k2 => lv_icmp_eq (tgt := 52) hx hb dX3_joins_45 (by decide) k1 k2) (fun c_45 => ?_) (fun c_45 => ?_)
          · refine rk_of (fun _ _ _ _ _ k => lv_iconst (v := 0) hx hb dX3_joins_52 rfl k) ?_
            exact hJ53 0 ls (lv_sub hl [0, 1, 2] rfl)
          · refine rk_of (fun _ _ _ _ _ k => lv_iconst (v := 1) hx hb dX3_joins_48 rfl (lv_goto (tgt := 53) hx hb dX3_joins_49 (by decide) k)) ?_
            exact hJ53 1 ls (lv_sub hl [0, 1, 2] rfl)
        · refine rk_of (fun _ _ _ _ _ k => lv_iconst (v := 1) hx hb dX3_joins_48 rfl (lv_goto (tgt := 53) hx hb dX3_joins_49 (by decide) k)) ?_
          exact hJ53 1 ls (lv_sub hl [0, 1, 2] rfl)
    · refine rk_of (fun _ _ _ _ _ k => lv_iconst (v := 0) hx hb dX3_joins_16 rfl k) ?_
      exact rk_top (rf_iret C rfl dX3_joins_17)
  · refine rk_of (fun _ _ _ _ _ k => lv_iconst (v := 0) hx hb dX3_joins_16 rfl k) ?_
    exact rk_top (rf_iret C rfl dX3_joins_17)
theorem hd_X3_join : yX3_join.cls ≠ "java/lang/invoke/MethodHandle" ∧ yX3_join.cls ≠ "java/lang/invoke/VarHandle" ∧ (parseMethodDescriptor yX3_join.desc).map (fun d => d.parameters.length) = some 2 := by decide +kernel
noncomputable def fn_X3_join (K : zm_K) (a0 : zm_R) (a1 : Int32) (a2 : Int32) : zm_M Int32 :=
  zm_bnd (zm_bnd (zm_is a0 20) fun _ => fn_X3_keeps K a0) fun _ =>
  zm_bnd (zm_bnd (zm_is a0 20) fun _ => fn_X3_isLetting K a0 a1) fun v7 =>
  zm_bnd (α := Int32) (
      if v7 = 0 then
        zm_ret 1
      else
        zm_bnd (zm_bnd (zm_is a0 20) fun _ => fn_X3_isLetting K a0 a2) fun v15 =>
        if v15 = 0 then
          zm_ret 1
        else
          zm_ret 0
    ) fun b26 =>
  zm_bnd (zm_bnd (zm_is a0 20) fun _ => fn_X3_isThrown K a0 b26 1) fun v27 =>
  if v27 = 0 then
    zm_bnd (α := Int32) (
        if a1 = a2 then
          zm_ret 1
        else
          zm_ret 0
      ) fun b44 =>
    zm_bnd (zm_bnd (zm_is a0 20) fun _ => fn_X3_isThrown K a0 b44 2) fun v45 =>
    if v45 = 0 then
      zm_bnd (zm_bnd (zm_is a0 20) fun _ => fn_X3_joins K a0 a1 a2) fun v57 =>
      zm_bnd (zm_bnd (zm_is a0 20) fun _ => fn_X3_ends K a0 v57 3) fun v61 =>
      zm_ret v61
    else
      zm_ret 0
  else
    zm_ret 0
theorem ct_X3_join {l : Launch} {Ω : zm_W} {K : zm_K} (H : zm_H Ω K) (a0 : zm_R) (a1 : Int32) (a2 : Int32) : zm_Ct l Ω yX3_join (ws_ yX3_join cX3_join 3 (Option.some Jvm.ClassFile.FieldType.int)) 6 173 [va_rf a0, .int a1, .int a2] zm_tvI (fn_X3_join K a0 a1 a2) := by
  refine zm_ct H.1 (by decide +kernel) (zl_le (zl_R (zl_I (zl_I zl_nil))) (Nat.le_of_ble_eq_true rfl)) ?_
  intro p e R s m args below meth c n0 k0 C hX ls hl
  have hx := C.1
  have hb := C.2.1
  simp only [zg_I, zg_R, zg_nil] at hl
  have hl : lv_has ls 3 [(0, va_rf a0), (1, .int a1), (2, .int a2)] := hl
  refine rk_rf ?_
  unfold fn_X3_join
  refine rk_of (fun _ _ _ _ _ k => lr_aload_n hx hb dX3_join_0 rfl (lv_at hl 0 rfl) k) ?_
  refine rk_callV hX (cl_V (rest := []) (av := []) C (hc_X3 H) (ct_X3_keeps H a0) (lw_V q2655 q2657 qs45 q112 q2658) ⟨rfl, hd_X3_keeps⟩ ⟨(Nat.le_of_ble_eq_true rfl), (Nat.le_of_ble_eq_true rfl)⟩ rfl hl.1 rfl (zw_le zw_nil (Nat.le_of_ble_eq_true rfl)) dX3_join_1) (fun _ => ?_)
  refine rk_of (fun _ _ _ _ _ k => lr_aload_n hx hb dX3_join_4 rfl (lv_at hl 0 rfl) (lr_aload_n hx hb dX3_join_5 rfl (lv_at hl 0 rfl) (lv_iload_n hx hb dX3_join_6 rfl (lv_at hl 1 rfl) k))) ?_
  refine rk_callI hX (cl_V (rest := [va_rf a0]) (av := [.int a1]) C (hc_X3 H) (ct_X3_isLetting H a0 a1) (lw_V q2722 q2724 qs56 q112 q2725) ⟨rfl, hd_X3_isLetting⟩ ⟨(Nat.le_of_ble_eq_true rfl), (Nat.le_of_ble_eq_true rfl)⟩ rfl hl.1 rfl (zw_le (zw_R zw_nil) (Nat.le_of_ble_eq_true rfl)) dX3_join_7) (fun v7 => ?_)
  refine rk_join (β := Int32) (fun (b26 : Int32) ls => lv_has ls 3 [(0, va_rf a0), (1, .int a1), (2, .int a2)]) (fun (b26 : Int32) ls => F0 m 26 ls [.int b26, va_rf a0]) (fun b26 ls hl => ?_) (fun hJ26 => ?_)
  · refine rk_of (fun _ _ _ _ _ k => lv_iconst (v := 1) hx hb dX3_join_26 rfl k) ?_
    refine rk_callI hX (cl_V (rest := []) (av := [.int b26, .int 1]) C (hc_X3 H) (ct_X3_isThrown H a0 b26 1) (lw_V q2665 q2667 qs46 q112 q2668) ⟨rfl, hd_X3_isThrown⟩ ⟨(Nat.le_of_ble_eq_true rfl), (Nat.le_of_ble_eq_true rfl)⟩ rfl hl.1 rfl (zw_le zw_nil (Nat.le_of_ble_eq_true rfl)) dX3_join_27) (fun v27 => ?_)
    refine rk_ite (fun _ _ _ _ _ k1 k2 => lv_if_ne (tgt := 51) hx hb dX3_join_30 (by decide) k2 k1) (fun c_30 => ?_) (fun c_30 => ?_)
    · refine rk_of (fun _ _ _ _ _ k => lr_aload_n hx hb dX3_join_33 rfl (lv_at hl 0 rfl) (lv_iload_n hx hb dX3_join_34 rfl (lv_at hl 1 rfl) (lv_iload_n hx hb dX3_join_35 rfl (lv_at hl 2 rfl) k))) ?_
      refine rk_join (β := Int32) (fun (b44 : Int32) ls => lv_has ls 3 [(0, va_rf a0), (1, .int a1), (2, .int a2)]) (fun (b44 : Int32) ls => F0 m 44 ls [.int b44, va_rf a0]) (fun b44 ls hl => ?_) (fun hJ44 => ?_)
      · refine rk_of (fun _ _ _ _ _ k => lv_iconst (v := 2) hx hb dX3_join_44 rfl k) ?_
        refine rk_callI hX (cl_V (rest := []) (av := [.int b44, .int 2]) C (hc_X3 H) (ct_X3_isThrown H a0 b44 2) (lw_V q2665 q2667 qs46 q112 q2668) ⟨rfl, hd_X3_isThrown⟩ ⟨(Nat.le_of_ble_eq_true rfl), (Nat.le_of_ble_eq_true rfl)⟩ rfl hl.1 rfl (zw_le zw_nil (Nat.le_of_ble_eq_true rfl)) dX3_join_45) (fun v45 => ?_)
        refine rk_ite (fun _ _ _ _ _ k1 k2 => lv_if_eq (tgt := 53) hx hb dX3_join_48 (by decide) k1 k2) (fun c_48 => ?_) (fun c_48 => ?_)
        · refine rk_of (fun _ _ _ _ _ k => lr_aload_n hx hb dX3_join_53 rfl (lv_at hl 0 rfl) (lr_aload_n hx hb dX3_join_54 rfl (lv_at hl 0 rfl) (lv_iload_n hx hb dX3_join_55 rfl (lv_at hl 1 rfl) (lv_iload_n hx hb dX3_join_56 rfl (lv_at hl 2 rfl) k)))) ?_
          refine rk_callI hX (cl_V (rest := [va_rf a0]) (av := [.int a1, .int a2]) C (hc_X3 H) (ct_X3_joins H a0 a1 a2) (lw_V q2771 q2773 qs63 q112 q2774) ⟨rfl, hd_X3_joins⟩ ⟨(Nat.le_of_ble_eq_true rfl), (Nat.le_of_ble_eq_true rfl)⟩ rfl hl.1 rfl (zw_le (zw_R zw_nil) (Nat.le_of_ble_eq_true rfl)) dX3_join_57) (fun v57 => ?_)
          refine rk_of (fun _ _ _ _ _ k => lv_iconst (v := 3) hx hb dX3_join_60 rfl k) ?_
          refine rk_callI hX (cl_V (rest := []) (av := [.int v57, .int 3]) C (hc_X3 H) (ct_X3_ends H a0 v57 3) (lw_V q2673 q2675 qs48 q112 q2676) ⟨rfl, hd_X3_ends⟩ ⟨(Nat.le_of_ble_eq_true rfl), (Nat.le_of_ble_eq_true rfl)⟩ rfl hl.1 rfl (zw_le zw_nil (Nat.le_of_ble_eq_true rfl)) dX3_join_61) (fun v61 => ?_)
          exact rk_top (rf_iret C rfl dX3_join_64)
        · refine rk_of (fun _ _ _ _ _ k => lv_iconst (v := 0) hx hb dX3_join_51 rfl k) ?_
          exact rk_top (rf_iret C rfl dX3_join_52)
      · refine rk_ite (fun _ _ _ _ _ k1 k2 => lv_icmp_ne (tgt := 43) hx hb dX3_join_36 (by decide) k2 k1) (fun c_36 => ?_) (fun c_36 => ?_)
        · refine rk_of (fun _ _ _ _ _ k => lv_iconst (v := 1) hx hb dX3_join_39 rfl (lv_goto (tgt := 44) hx hb dX3_join_40 (by decide) k)) ?_
          exact hJ44 1 ls (lv_sub hl [0, 1, 2] rfl)
        · refine rk_of (fun _ _ _ _ _ k => lv_iconst (v := 0) hx hb dX3_join_43 rfl k) ?_
          exact hJ44 0 ls (lv_sub hl [0, 1, 2] rfl)
    · refine rk_of (fun _ _ _ _ _ k => lv_iconst (v := 0) hx hb dX3_join_51 rfl k) ?_
      exact rk_top (rf_iret C rfl dX3_join_52)
  · refine rk_ite (fun _ _ _ _ _ k1 k2 => lv_if_eq (tgt := 21) hx hb dX3_join_10 (by decide) k1 k2) (fun c_10 => ?_) (fun c_10 => ?_)
    · refine rk_of (fun _ _ _ _ _ k => lv_iconst (v := 1) hx hb dX3_join_21 rfl (lv_goto (tgt := 26) hx hb dX3_join_22 (by decide) k)) ?_
      exact hJ26 1 ls (lv_sub hl [0, 1, 2] rfl)
    · refine rk_of (fun _ _ _ _ _ k => lr_aload_n hx hb dX3_join_13 rfl (lv_at hl 0 rfl) (lv_iload_n hx hb dX3_join_14 rfl (lv_at hl 2 rfl) k)) ?_
      refine rk_callI hX (cl_V (rest := [va_rf a0]) (av := [.int a2]) C (hc_X3 H) (ct_X3_isLetting H a0 a2) (lw_V q2722 q2724 qs56 q112 q2725) ⟨rfl, hd_X3_isLetting⟩ ⟨(Nat.le_of_ble_eq_true rfl), (Nat.le_of_ble_eq_true rfl)⟩ rfl hl.1 rfl (zw_le (zw_R zw_nil) (Nat.le_of_ble_eq_true rfl)) dX3_join_15) (fun v15 => ?_)
      refine rk_ite (fun _ _ _ _ _ k1 k2 => lv_if_ne (tgt := 25) hx hb dX3_join_18 (by decide) k2 k1) (fun c_18 => ?_) (fun c_18 => ?_)
      · refine rk_of (fun _ _ _ _ _ k => lv_iconst (v := 1) hx hb dX3_join_21 rfl (lv_goto (tgt := 26) hx hb dX3_join_22 (by decide) k)) ?_
        exact hJ26 1 ls (lv_sub hl [0, 1, 2] rfl)
      · refine rk_of (fun _ _ _ _ _ k => lv_iconst (v := 0) hx hb dX3_join_25 rfl k) ?_
        exact hJ26 0 ls (lv_sub hl [0, 1, 2] rfl)
theorem hd_X3_let : yX3_let.cls ≠ "java/lang/invoke/MethodHandle" ∧ yX3_let.cls ≠ "java/lang/invoke/VarHandle" ∧ (parseMethodDescriptor yX3_let.desc).map (fun d => d.parameters.length) = some 4 := by decide +kernel
noncomputable def fn_X3_let (K : zm_K) (a0 : zm_R) (a1 : Int32) (a2 : Int32) (a3 : Int32) (a4 : Int32) : zm_M Int32 :=
  zm_bnd (zm_bnd (zm_is a0 20) fun _ => fn_X3_keeps K a0) fun _ =>
  zm_bnd (zm_bnd (zm_is a0 20) fun _ => fn_X3_isBox K a0 a1) fun v7 =>
  zm_bnd (α := Int32) (
      if v7 = 0 then
        zm_ret 1
      else
        zm_ret 0
    ) fun b18 =>
  zm_bnd (zm_bnd (zm_is a0 20) fun _ => fn_X3_isThrown K a0 b18 1) fun v19 =>
  if v19 = 0 then
    zm_bnd (fn_X3_isFor K a2 a3 a4) fun v30 =>
    zm_bnd (α := Int32) (
        if v30 = 0 then
          zm_ret 1
        else
          zm_ret 0
      ) fun b41 =>
    zm_bnd (zm_bnd (zm_is a0 20) fun _ => fn_X3_isThrown K a0 b41 2) fun v42 =>
    if v42 = 0 then
      zm_bnd (zm_bnd (zm_is a0 20) fun _ => fn_X3_lets K a0 a1 a2 a3 a4) fun v57 =>
      zm_bnd (zm_bnd (zm_is a0 20) fun _ => fn_X3_ends K a0 v57 3) fun v61 =>
      zm_ret v61
    else
      zm_ret 0
  else
    zm_ret 0
theorem ct_X3_let {l : Launch} {Ω : zm_W} {K : zm_K} (H : zm_H Ω K) (a0 : zm_R) (a1 : Int32) (a2 : Int32) (a3 : Int32) (a4 : Int32) : zm_Ct l Ω yX3_let (ws_ yX3_let cX3_let 5 (Option.some Jvm.ClassFile.FieldType.int)) 6 181 [va_rf a0, .int a1, .int a2, .int a3, .int a4] zm_tvI (fn_X3_let K a0 a1 a2 a3 a4) := by
  refine zm_ct H.1 (by decide +kernel) (zl_le (zl_R (zl_I (zl_I (zl_I (zl_I zl_nil))))) (Nat.le_of_ble_eq_true rfl)) ?_
  intro p e R s m args below meth c n0 k0 C hX ls hl
  have hx := C.1
  have hb := C.2.1
  simp only [zg_I, zg_R, zg_nil] at hl
  have hl : lv_has ls 5 [(0, va_rf a0), (1, .int a1), (2, .int a2), (3, .int a3), (4, .int a4)] := hl
  refine rk_rf ?_
  unfold fn_X3_let
  refine rk_of (fun _ _ _ _ _ k => lr_aload_n hx hb dX3_let_0 rfl (lv_at hl 0 rfl) k) ?_
  refine rk_callV hX (cl_V (rest := []) (av := []) C (hc_X3 H) (ct_X3_keeps H a0) (lw_V q2655 q2657 qs45 q112 q2658) ⟨rfl, hd_X3_keeps⟩ ⟨(Nat.le_of_ble_eq_true rfl), (Nat.le_of_ble_eq_true rfl)⟩ rfl hl.1 rfl (zw_le zw_nil (Nat.le_of_ble_eq_true rfl)) dX3_let_1) (fun _ => ?_)
  refine rk_of (fun _ _ _ _ _ k => lr_aload_n hx hb dX3_let_4 rfl (lv_at hl 0 rfl) (lr_aload_n hx hb dX3_let_5 rfl (lv_at hl 0 rfl) (lv_iload_n hx hb dX3_let_6 rfl (lv_at hl 1 rfl) k))) ?_
  refine rk_callI hX (cl_V (rest := [va_rf a0]) (av := [.int a1]) C (hc_X3 H) (ct_X3_isBox H a0 a1) (lw_V q2685 q2687 qs50 q112 q2688) ⟨rfl, hd_X3_isBox⟩ ⟨(Nat.le_of_ble_eq_true rfl), (Nat.le_of_ble_eq_true rfl)⟩ rfl hl.1 rfl (zw_le (zw_R zw_nil) (Nat.le_of_ble_eq_true rfl)) dX3_let_7) (fun v7 => ?_)
  refine rk_join (β := Int32) (fun (b18 : Int32) ls => lv_has ls 5 [(0, va_rf a0), (1, .int a1), (2, .int a2), (3, .int a3), (4, .int a4)]) (fun (b18 : Int32) ls => F0 m 18 ls [.int b18, va_rf a0]) (fun b18 ls hl => ?_) (fun hJ18 => ?_)
  · refine rk_of (fun _ _ _ _ _ k => lv_iconst (v := 1) hx hb dX3_let_18 rfl k) ?_
    refine rk_callI hX (cl_V (rest := []) (av := [.int b18, .int 1]) C (hc_X3 H) (ct_X3_isThrown H a0 b18 1) (lw_V q2665 q2667 qs46 q112 q2668) ⟨rfl, hd_X3_isThrown⟩ ⟨(Nat.le_of_ble_eq_true rfl), (Nat.le_of_ble_eq_true rfl)⟩ rfl hl.1 rfl (zw_le zw_nil (Nat.le_of_ble_eq_true rfl)) dX3_let_19) (fun v19 => ?_)
    refine rk_ite (fun _ _ _ _ _ k1 k2 => lv_if_ne (tgt := 48) hx hb dX3_let_22 (by decide) k2 k1) (fun c_22 => ?_) (fun c_22 => ?_)
    · refine rk_of (fun _ _ _ _ _ k => lr_aload_n hx hb dX3_let_25 rfl (lv_at hl 0 rfl) (lv_iload_n hx hb dX3_let_26 rfl (lv_at hl 2 rfl) (lv_iload_n hx hb dX3_let_27 rfl (lv_at hl 3 rfl) (lv_iload hx hb dX3_let_28 (lv_at hl 4 rfl) k)))) ?_
      refine rk_callI hX (cl_S (rest := [va_rf a0]) C (ct_X3_isFor H a2 a3 a4) (lw_S q2689 q2690 q112 q2691) hd_X3_isFor ⟨(Nat.le_of_ble_eq_true rfl), (Nat.le_of_ble_eq_true rfl)⟩ rfl hl.1 rfl (zw_le (zw_R zw_nil) (Nat.le_of_ble_eq_true rfl)) dX3_let_30) (fun v30 => ?_)
      refine rk_join (β := Int32) (fun (b41 : Int32) ls => lv_has ls 5 [(0, va_rf a0), (1, .int a1), (2, .int a2), (3, .int a3), (4, .int a4)]) (fun (b41 : Int32) ls => F0 m 41 ls [.int b41, va_rf a0]) (fun b41 ls hl => ?_) (fun hJ41 => ?_)
      · refine rk_of (fun _ _ _ _ _ k => lv_iconst (v := 2) hx hb dX3_let_41 rfl k) ?_
        refine rk_callI hX (cl_V (rest := []) (av := [.int b41, .int 2]) C (hc_X3 H) (ct_X3_isThrown H a0 b41 2) (lw_V q2665 q2667 qs46 q112 q2668) ⟨rfl, hd_X3_isThrown⟩ ⟨(Nat.le_of_ble_eq_true rfl), (Nat.le_of_ble_eq_true rfl)⟩ rfl hl.1 rfl (zw_le zw_nil (Nat.le_of_ble_eq_true rfl)) dX3_let_42) (fun v42 => ?_)
        refine rk_ite (fun _ _ _ _ _ k1 k2 => lv_if_eq (tgt := 50) hx hb dX3_let_45 (by decide) k1 k2) (fun c_45 => ?_) (fun c_45 => ?_)
        · refine rk_of (fun _ _ _ _ _ k => lr_aload_n hx hb dX3_let_50 rfl (lv_at hl 0 rfl) (lr_aload_n hx hb dX3_let_51 rfl (lv_at hl 0 rfl) (lv_iload_n hx hb dX3_let_52 rfl (lv_at hl 1 rfl) (lv_iload_n hx hb dX3_let_53 rfl (lv_at hl 2 rfl) (lv_iload_n hx hb dX3_let_54 rfl (lv_at hl 3 rfl) (lv_iload hx hb dX3_let_55 (lv_at hl 4 rfl) k)))))) ?_
          refine rk_callI hX (cl_V (rest := [va_rf a0]) (av := [.int a1, .int a2, .int a3, .int a4]) C (hc_X3 H) (ct_X3_lets H a0 a1 a2 a3 a4) (lw_V q2695 q2697 qs51 q112 q2698) ⟨rfl, hd_X3_lets⟩ ⟨(Nat.le_of_ble_eq_true rfl), (Nat.le_of_ble_eq_true rfl)⟩ rfl hl.1 rfl (zw_le (zw_R zw_nil) (Nat.le_of_ble_eq_true rfl)) dX3_let_57) (fun v57 => ?_)
          refine rk_of (fun _ _ _ _ _ k => lv_iconst (v := 3) hx hb dX3_let_60 rfl k) ?_
          refine rk_callI hX (cl_V (rest := []) (av := [.int v57, .int 3]) C (hc_X3 H) (ct_X3_ends H a0 v57 3) (lw_V q2673 q2675 qs48 q112 q2676) ⟨rfl, hd_X3_ends⟩ ⟨(Nat.le_of_ble_eq_true rfl), (Nat.le_of_ble_eq_true rfl)⟩ rfl hl.1 rfl (zw_le zw_nil (Nat.le_of_ble_eq_true rfl)) dX3_let_61) (fun v61 => ?_)
          exact rk_top (rf_iret C rfl dX3_let_64)
        · refine rk_of (fun _ _ _ _ _ k => lv_iconst (v := 0) hx hb dX3_let_48 rfl k) ?_
          exact rk_top (rf_iret C rfl dX3_let_49)
      · refine rk_ite (fun _ _ _ _ _ k1 k2 => lv_if_ne (tgt := 40) hx hb dX3_let_33 (by decide) k2 k1) (fun c_33 => ?_) (fun c_33 => ?_)
        · refine rk_of (fun _ _ _ _ _ k => lv_iconst (v := 1) hx hb dX3_let_36 rfl (lv_goto (tgt := 41) hx hb dX3_let_37 (by decide) k)) ?_
          exact hJ41 1 ls (lv_sub hl [0, 1, 2, 3, 4] rfl)
        · refine rk_of (fun _ _ _ _ _ k => lv_iconst (v := 0) hx hb dX3_let_40 rfl k) ?_
          exact hJ41 0 ls (lv_sub hl [0, 1, 2, 3, 4] rfl)
    · refine rk_of (fun _ _ _ _ _ k => lv_iconst (v := 0) hx hb dX3_let_48 rfl k) ?_
      exact rk_top (rf_iret C rfl dX3_let_49)
  · refine rk_ite (fun _ _ _ _ _ k1 k2 => lv_if_ne (tgt := 17) hx hb dX3_let_10 (by decide) k2 k1) (fun c_10 => ?_) (fun c_10 => ?_)
    · refine rk_of (fun _ _ _ _ _ k => lv_iconst (v := 1) hx hb dX3_let_13 rfl (lv_goto (tgt := 18) hx hb dX3_let_14 (by decide) k)) ?_
      exact hJ18 1 ls (lv_sub hl [0, 1, 2, 3, 4] rfl)
    · refine rk_of (fun _ _ _ _ _ k => lv_iconst (v := 0) hx hb dX3_let_17 rfl k) ?_
      exact hJ18 0 ls (lv_sub hl [0, 1, 2, 3, 4] rfl)
theorem hd_X3_letShare : yX3_letShare.cls ≠ "java/lang/invoke/MethodHandle" ∧ yX3_letShare.cls ≠ "java/lang/invoke/VarHandle" ∧ (parseMethodDescriptor yX3_letShare.desc).map (fun d => d.parameters.length) = some 1 := by decide +kernel
noncomputable def fn_X3_letShare (K : zm_K) (a0 : zm_R) (a1 : Int32) : zm_M UInt32 :=
  zm_bnd (zm_bnd (zm_is a0 20) fun _ => fn_X3_isBox K a0 a1) fun v3 =>
  zm_bnd (α := Int32) (
      if v3 = 0 then
        zm_ret 1
      else
        zm_ret 0
    ) fun b14 =>
  zm_bnd (zm_bnd (zm_is a0 20) fun _ => fn_X3_isThrown K a0 b14 1) fun v15 =>
  zm_bnd (α := UInt32) (
      if v15 = 0 then
        zm_bnd (zm_bnd (zm_is a0 20) fun _ => fn_X3_minutesLet K a0 a1) fun v27 =>
        zm_bnd (zm_grd (FP.fdiv (FP.i2f v27) 1142292480 &&& 0x7fffffff ≤ 0x7f800000)) fun _ =>
        zm_ret (FP.fdiv (FP.i2f v27) 1142292480)
      else
        zm_ret FP.fconst0
    ) fun b34 =>
  zm_ret b34
theorem ct_X3_letShare {l : Launch} {Ω : zm_W} {K : zm_K} (H : zm_H Ω K) (a0 : zm_R) (a1 : Int32) : zm_Ct l Ω yX3_letShare (ws_ yX3_letShare cX3_letShare 2 (Option.some Jvm.ClassFile.FieldType.float)) 6 174 [va_rf a0, .int a1] zm_tvF (fn_X3_letShare K a0 a1) := by
  refine zm_ct H.1 (by decide +kernel) (zl_le (zl_R (zl_I zl_nil)) (Nat.le_of_ble_eq_true rfl)) ?_
  intro p e R s m args below meth c n0 k0 C hX ls hl
  have hx := C.1
  have hb := C.2.1
  simp only [zg_I, zg_R, zg_nil] at hl
  have hl : lv_has ls 2 [(0, va_rf a0), (1, .int a1)] := hl
  refine rk_rf ?_
  unfold fn_X3_letShare
  refine rk_of (fun _ _ _ _ _ k => lr_aload_n hx hb dX3_letShare_0 rfl (lv_at hl 0 rfl) (lr_aload_n hx hb dX3_letShare_1 rfl (lv_at hl 0 rfl) (lv_iload_n hx hb dX3_letShare_2 rfl (lv_at hl 1 rfl) k))) ?_
  refine rk_callI hX (cl_V (rest := [va_rf a0]) (av := [.int a1]) C (hc_X3 H) (ct_X3_isBox H a0 a1) (lw_V q2685 q2687 qs50 q112 q2688) ⟨rfl, hd_X3_isBox⟩ ⟨(Nat.le_of_ble_eq_true rfl), (Nat.le_of_ble_eq_true rfl)⟩ rfl hl.1 rfl (zw_le (zw_R zw_nil) (Nat.le_of_ble_eq_true rfl)) dX3_letShare_3) (fun v3 => ?_)
  refine rk_join (β := Int32) (fun (b14 : Int32) ls => lv_has ls 2 [(0, va_rf a0), (1, .int a1)]) (fun (b14 : Int32) ls => F0 m 14 ls [.int b14, va_rf a0]) (fun b14 ls hl => ?_) (fun hJ14 => ?_)
  · refine rk_of (fun _ _ _ _ _ k => lv_iconst (v := 1) hx hb dX3_letShare_14 rfl k) ?_
    refine rk_callI hX (cl_V (rest := []) (av := [.int b14, .int 1]) C (hc_X3 H) (ct_X3_isThrown H a0 b14 1) (lw_V q2665 q2667 qs46 q112 q2668) ⟨rfl, hd_X3_isThrown⟩ ⟨(Nat.le_of_ble_eq_true rfl), (Nat.le_of_ble_eq_true rfl)⟩ rfl hl.1 rfl (zw_le zw_nil (Nat.le_of_ble_eq_true rfl)) dX3_letShare_15) (fun v15 => ?_)
    refine rk_join (β := UInt32) (fun (b34 : UInt32) ls => lv_has ls 2 []) (fun (b34 : UInt32) ls => F0 m 34 ls [.float b34]) (fun b34 ls hl => ?_) (fun hJ34 => ?_)
    · exact rk_top (rf_fret C dX3_letShare_34)
    · refine rk_ite (fun _ _ _ _ _ k1 k2 => lv_if_eq (tgt := 25) hx hb dX3_letShare_18 (by decide) k1 k2) (fun c_18 => ?_) (fun c_18 => ?_)
      · refine rk_of (fun _ _ _ _ _ k => lr_aload_n hx hb dX3_letShare_25 rfl (lv_at hl 0 rfl) (lv_iload_n hx hb dX3_letShare_26 rfl (lv_at hl 1 rfl) k)) ?_
        refine rk_callI hX (cl_V (rest := []) (av := [.int a1]) C (hc_X3 H) (ct_X3_minutesLet H a0 a1) (lw_V q2870 q2872 qs75 q112 q2873) ⟨rfl, hd_X3_minutesLet⟩ ⟨(Nat.le_of_ble_eq_true rfl), (Nat.le_of_ble_eq_true rfl)⟩ rfl hl.1 rfl (zw_le zw_nil (Nat.le_of_ble_eq_true rfl)) dX3_letShare_27) (fun v27 => ?_)
        refine rk_of (fun _ _ _ _ _ k => lv_i2f hx hb dX3_letShare_30 (lv_ldcf (v := 1142292480) hx hb C.2.2.1 (C.2.2.2.1 _ q2981) dX3_letShare_31 k)) ?_
        refine rk_grd (fun hg_33 => ?_)
        refine rk_of (fun _ _ _ _ _ k => lv_fdiv hx hb dX3_letShare_33 hg_33 k) ?_
        exact hJ34 (FP.fdiv (FP.i2f v27) 1142292480) ls (lv_sub hl [] rfl)
      · refine rk_of (fun _ _ _ _ _ k => lv_fconst0 hx hb dX3_letShare_21 (lv_goto (tgt := 34) hx hb dX3_letShare_22 (by decide) k)) ?_
        exact hJ34 FP.fconst0 ls (lv_sub hl [] rfl)
  · refine rk_ite (fun _ _ _ _ _ k1 k2 => lv_if_ne (tgt := 13) hx hb dX3_letShare_6 (by decide) k2 k1) (fun c_6 => ?_) (fun c_6 => ?_)
    · refine rk_of (fun _ _ _ _ _ k => lv_iconst (v := 1) hx hb dX3_letShare_9 rfl (lv_goto (tgt := 14) hx hb dX3_letShare_10 (by decide) k)) ?_
      exact hJ14 1 ls (lv_sub hl [0, 1] rfl)
    · refine rk_of (fun _ _ _ _ _ k => lv_iconst (v := 0) hx hb dX3_letShare_13 rfl k) ?_
      exact hJ14 0 ls (lv_sub hl [0, 1] rfl)
theorem hd_X3_lettingOf : yX3_lettingOf.cls ≠ "java/lang/invoke/MethodHandle" ∧ yX3_lettingOf.cls ≠ "java/lang/invoke/VarHandle" ∧ (parseMethodDescriptor yX3_lettingOf.desc).map (fun d => d.parameters.length) = some 2 := by decide +kernel
noncomputable def fn_X3_lettingOf (K : zm_K) (a0 : zm_R) (a1 : Int32) (a2 : Int32) : zm_M Int32 :=
  zm_bnd (zm_bnd (zm_is a0 20) fun _ => fn_X3_isLetting K a0 a1) fun v3 =>
  zm_bnd (α := Int32) (
      if v3 = 0 then
        zm_ret 1
      else
        zm_ret 0
    ) fun b14 =>
  zm_bnd (zm_bnd (zm_is a0 20) fun _ => fn_X3_isThrown K a0 b14 1) fun v15 =>
  if v15 = 0 then
    zm_bnd (fn_X3_isIn K a2 0 5) fun v25 =>
    zm_bnd (α := Int32) (
        if v25 = 0 then
          zm_ret 1
        else
          zm_ret 0
      ) fun b36 =>
    zm_bnd (zm_bnd (zm_is a0 20) fun _ => fn_X3_isThrown K a0 b36 2) fun v37 =>
    if v37 = 0 then
      if a2 = 5 then
        zm_bnd (zm_bnd (zm_is a0 20) fun _ => fn_X3_coinsOf K a0 a1) fun v52 =>
        zm_ret v52
      else
        zm_bnd (zm_bnd (zm_is a0 20) fun _ => fn_X3_ofLetting K a0 a1 a2) fun v61 =>
        zm_ret v61
    else
      zm_ret 0
  else
    zm_ret 0
theorem ct_X3_lettingOf {l : Launch} {Ω : zm_W} {K : zm_K} (H : zm_H Ω K) (a0 : zm_R) (a1 : Int32) (a2 : Int32) : zm_Ct l Ω yX3_lettingOf (ws_ yX3_lettingOf cX3_lettingOf 3 (Option.some Jvm.ClassFile.FieldType.int)) 5 149 [va_rf a0, .int a1, .int a2] zm_tvI (fn_X3_lettingOf K a0 a1 a2) := by
  refine zm_ct H.1 (by decide +kernel) (zl_le (zl_R (zl_I (zl_I zl_nil))) (Nat.le_of_ble_eq_true rfl)) ?_
  intro p e R s m args below meth c n0 k0 C hX ls hl
  have hx := C.1
  have hb := C.2.1
  simp only [zg_I, zg_R, zg_nil] at hl
  have hl : lv_has ls 3 [(0, va_rf a0), (1, .int a1), (2, .int a2)] := hl
  refine rk_rf ?_
  unfold fn_X3_lettingOf
  refine rk_of (fun _ _ _ _ _ k => lr_aload_n hx hb dX3_lettingOf_0 rfl (lv_at hl 0 rfl) (lr_aload_n hx hb dX3_lettingOf_1 rfl (lv_at hl 0 rfl) (lv_iload_n hx hb dX3_lettingOf_2 rfl (lv_at hl 1 rfl) k))) ?_
  refine rk_callI hX (cl_V (rest := [va_rf a0]) (av := [.int a1]) C (hc_X3 H) (ct_X3_isLetting H a0 a1) (lw_V q2722 q2724 qs56 q112 q2725) ⟨rfl, hd_X3_isLetting⟩ ⟨(Nat.le_of_ble_eq_true rfl), (Nat.le_of_ble_eq_true rfl)⟩ rfl hl.1 rfl (zw_le (zw_R zw_nil) (Nat.le_of_ble_eq_true rfl)) dX3_lettingOf_3) (fun v3 => ?_)
  refine rk_join (β := Int32) (fun (b14 : Int32) ls => lv_has ls 3 [(0, va_rf a0), (1, .int a1), (2, .int a2)]) (fun (b14 : Int32) ls => F0 m 14 ls [.int b14, va_rf a0]) (fun b14 ls hl => ?_) (fun hJ14 => ?_)
  · refine rk_of (fun _ _ _ _ _ k => lv_iconst (v := 1) hx hb dX3_lettingOf_14 rfl k) ?_
    refine rk_callI hX (cl_V (rest := []) (av := [.int b14, .int 1]) C (hc_X3 H) (ct_X3_isThrown H a0 b14 1) (lw_V q2665 q2667 qs46 q112 q2668) ⟨rfl, hd_X3_isThrown⟩ ⟨(Nat.le_of_ble_eq_true rfl), (Nat.le_of_ble_eq_true rfl)⟩ rfl hl.1 rfl (zw_le zw_nil (Nat.le_of_ble_eq_true rfl)) dX3_lettingOf_15) (fun v15 => ?_)
    refine rk_ite (fun _ _ _ _ _ k1 k2 => lv_if_ne (tgt := 43) hx hb dX3_lettingOf_18 (by decide) k2 k1) (fun c_18 => ?_) (fun c_18 => ?_)
    · refine rk_of (fun _ _ _ _ _ k => lr_aload_n hx hb dX3_lettingOf_21 rfl (lv_at hl 0 rfl) (lv_iload_n hx hb dX3_lettingOf_22 rfl (lv_at hl 2 rfl) (lv_iconst (v := 0) hx hb dX3_lettingOf_23 rfl (lv_iconst (v := 5) hx hb dX3_lettingOf_24 rfl k)))) ?_
      refine rk_callI hX (cl_S (rest := [va_rf a0]) C (ct_X3_isIn H a2 0 5) (lw_S q2662 q2663 q112 q2664) hd_X3_isIn ⟨(Nat.le_of_ble_eq_true rfl), (Nat.le_of_ble_eq_true rfl)⟩ rfl hl.1 rfl (zw_le (zw_R zw_nil) (Nat.le_of_ble_eq_true rfl)) dX3_lettingOf_25) (fun v25 => ?_)
      refine rk_join (β := Int32) (fun (b36 : Int32) ls => lv_has ls 3 [(0, va_rf a0), (1, .int a1), (2, .int a2)]) (fun (b36 : Int32) ls => F0 m 36 ls [.int b36, va_rf a0]) (fun b36 ls hl => ?_) (fun hJ36 => ?_)
      · refine rk_of (fun _ _ _ _ _ k => lv_iconst (v := 2) hx hb dX3_lettingOf_36 rfl k) ?_
        refine rk_callI hX (cl_V (rest := []) (av := [.int b36, .int 2]) C (hc_X3 H) (ct_X3_isThrown H a0 b36 2) (lw_V q2665 q2667 qs46 q112 q2668) ⟨rfl, hd_X3_isThrown⟩ ⟨(Nat.le_of_ble_eq_true rfl), (Nat.le_of_ble_eq_true rfl)⟩ rfl hl.1 rfl (zw_le zw_nil (Nat.le_of_ble_eq_true rfl)) dX3_lettingOf_37) (fun v37 => ?_)
        refine rk_ite (fun _ _ _ _ _ k1 k2 => lv_if_eq (tgt := 45) hx hb dX3_lettingOf_40 (by decide) k1 k2) (fun c_40 => ?_) (fun c_40 => ?_)
        · refine rk_ite (fun _ _ _ _ _ k1 k2 => lv_iload_n hx hb dX3_lettingOf_45 rfl (lv_at hl 2 rfl) (lv_iconst (v := 5) hx hb dX3_lettingOf_46 rfl (lv_icmp_ne (tgt := 58) hx hb dX3_lettingOf_47 (by decide) k2 k1))) (fun c_47 => ?_) (fun c_47 => ?_)
          · refine rk_of (fun _ _ _ _ _ k => lr_aload_n hx hb dX3_lettingOf_50 rfl (lv_at hl 0 rfl) (lv_iload_n hx hb dX3_lettingOf_51 rfl (lv_at hl 1 rfl) k)) ?_
            refine rk_callI hX (cl_V (rest := []) (av := [.int a1]) C (hc_X3 H) (ct_X3_coinsOf H a0 a1) (lw_V q2734 q2736 qs59 q112 q2737) ⟨rfl, hd_X3_coinsOf⟩ ⟨(Nat.le_of_ble_eq_true rfl), (Nat.le_of_ble_eq_true rfl)⟩ rfl hl.1 rfl (zw_le zw_nil (Nat.le_of_ble_eq_true rfl)) dX3_lettingOf_52) (fun v52 => ?_)
            refine rk_of (fun _ _ _ _ _ k => lv_goto (tgt := 64) hx hb dX3_lettingOf_55 (by decide) k) ?_
            exact rk_top (rf_iret C rfl dX3_lettingOf_64)
          · refine rk_of (fun _ _ _ _ _ k => lr_aload_n hx hb dX3_lettingOf_58 rfl (lv_at hl 0 rfl) (lv_iload_n hx hb dX3_lettingOf_59 rfl (lv_at hl 1 rfl) (lv_iload_n hx hb dX3_lettingOf_60 rfl (lv_at hl 2 rfl) k))) ?_
            refine rk_callI hX (cl_V (rest := []) (av := [.int a1, .int a2]) C (hc_X3 H) (ct_X3_ofLetting H a0 a1 a2) (lw_V q2707 q2709 qs54 q112 q2710) ⟨rfl, hd_X3_ofLetting⟩ ⟨(Nat.le_of_ble_eq_true rfl), (Nat.le_of_ble_eq_true rfl)⟩ rfl hl.1 rfl (zw_le zw_nil (Nat.le_of_ble_eq_true rfl)) dX3_lettingOf_61) (fun v61 => ?_)
            exact rk_top (rf_iret C rfl dX3_lettingOf_64)
        · refine rk_of (fun _ _ _ _ _ k => lv_iconst (v := 0) hx hb dX3_lettingOf_43 rfl k) ?_
          exact rk_top (rf_iret C rfl dX3_lettingOf_44)
      · refine rk_ite (fun _ _ _ _ _ k1 k2 => lv_if_ne (tgt := 35) hx hb dX3_lettingOf_28 (by decide) k2 k1) (fun c_28 => ?_) (fun c_28 => ?_)
        · refine rk_of (fun _ _ _ _ _ k => lv_iconst (v := 1) hx hb dX3_lettingOf_31 rfl (lv_goto (tgt := 36) hx hb dX3_lettingOf_32 (by decide) k)) ?_
          exact hJ36 1 ls (lv_sub hl [0, 1, 2] rfl)
        · refine rk_of (fun _ _ _ _ _ k => lv_iconst (v := 0) hx hb dX3_lettingOf_35 rfl k) ?_
          exact hJ36 0 ls (lv_sub hl [0, 1, 2] rfl)
    · refine rk_of (fun _ _ _ _ _ k => lv_iconst (v := 0) hx hb dX3_lettingOf_43 rfl k) ?_
      exact rk_top (rf_iret C rfl dX3_lettingOf_44)
  · refine rk_ite (fun _ _ _ _ _ k1 k2 => lv_if_ne (tgt := 13) hx hb dX3_lettingOf_6 (by decide) k2 k1) (fun c_6 => ?_) (fun c_6 => ?_)
    · refine rk_of (fun _ _ _ _ _ k => lv_iconst (v := 1) hx hb dX3_lettingOf_9 rfl (lv_goto (tgt := 14) hx hb dX3_lettingOf_10 (by decide) k)) ?_
      exact hJ14 1 ls (lv_sub hl [0, 1, 2] rfl)
    · refine rk_of (fun _ _ _ _ _ k => lv_iconst (v := 0) hx hb dX3_lettingOf_13 rfl k) ?_
      exact hJ14 0 ls (lv_sub hl [0, 1, 2] rfl)
theorem hd_X3_meanLength : yX3_meanLength.cls ≠ "java/lang/invoke/MethodHandle" ∧ yX3_meanLength.cls ≠ "java/lang/invoke/VarHandle" ∧ (parseMethodDescriptor yX3_meanLength.desc).map (fun d => d.parameters.length) = some 0 := by decide +kernel
noncomputable def fn_X3_meanLength (K : zm_K) (a0 : zm_R) : zm_M UInt64 :=
  zm_bnd (zm_bnd (zm_is a0 20) fun _ => fn_X3_allLettings K a0) fun v1 =>
  zm_bnd (α := Int32) (
      if v1 = 0 then
        zm_ret 1
      else
        zm_ret 0
    ) fun b15 =>
  zm_bnd (zm_bnd (zm_is a0 20) fun _ => fn_X3_isThrown K a0 b15 1) fun v16 =>
  zm_bnd (α := UInt64) (
      if v16 = 0 then
        zm_bnd (zm_bnd (zm_is a0 20) fun _ => fn_X3_allMinutes K a0) fun v27 =>
        zm_bnd (zm_grd (FP.ddiv (FP.i2d v27) (FP.i2d v1) &&& 0x7fffffffffffffff ≤ 0x7ff0000000000000)) fun _ =>
        zm_ret (FP.ddiv (FP.i2d v27) (FP.i2d v1))
      else
        zm_ret FP.dconst0
    ) fun b34 =>
  zm_ret b34
theorem ct_X3_meanLength {l : Launch} {Ω : zm_W} {K : zm_K} (H : zm_H Ω K) (a0 : zm_R) : zm_Ct l Ω yX3_meanLength (ws_ yX3_meanLength cX3_meanLength 2 (Option.some Jvm.ClassFile.FieldType.double)) 7 196 [va_rf a0] zm_tvD (fn_X3_meanLength K a0) := by
  refine zm_ct H.1 (by decide +kernel) (zl_le (zl_R zl_nil) (Nat.le_of_ble_eq_true rfl)) ?_
  intro p e R s m args below meth c n0 k0 C hX ls hl
  have hx := C.1
  have hb := C.2.1
  simp only [zg_R, zg_nil] at hl
  have hl : lv_has ls 2 [(0, va_rf a0)] := hl
  refine rk_rf ?_
  unfold fn_X3_meanLength
  refine rk_of (fun _ _ _ _ _ k => lr_aload_n hx hb dX3_meanLength_0 rfl (lv_at hl 0 rfl) k) ?_
  refine rk_callI hX (cl_V (rest := []) (av := []) C (hc_X3 H) (ct_X3_allLettings H a0) (lw_V q2957 q2959 qs86 q112 q2960) ⟨rfl, hd_X3_allLettings⟩ ⟨(Nat.le_of_ble_eq_true rfl), (Nat.le_of_ble_eq_true rfl)⟩ rfl hl.1 rfl (zw_le zw_nil (Nat.le_of_ble_eq_true rfl)) dX3_meanLength_1) (fun v1 => ?_)
  refine rk_ofs (fun _ _ _ _ _ k => lr_istore_n hx hb dX3_meanLength_4 rfl hl (Nat.le_of_ble_eq_true rfl) [0] rfl ⟨va_rf_cat _, trivial⟩ k) (fun ls hl => ?_)
  refine rk_of (fun _ _ _ _ _ k => lr_aload_n hx hb dX3_meanLength_5 rfl (lv_at hl 1 rfl) (lv_iload_n hx hb dX3_meanLength_6 rfl (lv_at hl 0 rfl) k)) ?_
  refine rk_join (β := Int32) (fun (b15 : Int32) ls => lv_has ls 2 [(0, va_rf a0), (1, .int v1)]) (fun (b15 : Int32) ls => F0 m 15 ls [.int b15, va_rf a0]) (fun b15 ls hl => ?_) (fun hJ15 => ?_)
  · refine rk_of (fun _ _ _ _ _ k => lv_iconst (v := 1) hx hb dX3_meanLength_15 rfl k) ?_
    refine rk_callI hX (cl_V (rest := []) (av := [.int b15, .int 1]) C (hc_X3 H) (ct_X3_isThrown H a0 b15 1) (lw_V q2665 q2667 qs46 q112 q2668) ⟨rfl, hd_X3_isThrown⟩ ⟨(Nat.le_of_ble_eq_true rfl), (Nat.le_of_ble_eq_true rfl)⟩ rfl hl.1 rfl (zw_le zw_nil (Nat.le_of_ble_eq_true rfl)) dX3_meanLength_16) (fun v16 => ?_)
    refine rk_join (β := UInt64) (fun (b34 : UInt64) ls => lv_has ls 2 []) (fun (b34 : UInt64) ls => F0 m 34 ls [.double b34]) (fun b34 ls hl => ?_) (fun hJ34 => ?_)
    · exact rk_top (rf_dret C dX3_meanLength_34)
    · refine rk_ite (fun _ _ _ _ _ k1 k2 => lv_if_eq (tgt := 26) hx hb dX3_meanLength_19 (by decide) k1 k2) (fun c_19 => ?_) (fun c_19 => ?_)
      · refine rk_of (fun _ _ _ _ _ k => lr_aload_n hx hb dX3_meanLength_26 rfl (lv_at hl 0 rfl) k) ?_
        refine rk_callI hX (cl_V (rest := []) (av := []) C (hc_X3 H) (ct_X3_allMinutes H a0) (lw_V q2961 q2963 qs87 q112 q2964) ⟨rfl, hd_X3_allMinutes⟩ ⟨(Nat.le_of_ble_eq_true rfl), (Nat.le_of_ble_eq_true rfl)⟩ rfl hl.1 rfl (zw_le zw_nil (Nat.le_of_ble_eq_true rfl)) dX3_meanLength_27) (fun v27 => ?_)
        refine rk_of (fun _ _ _ _ _ k => lv_i2d hx hb dX3_meanLength_30 (lv_iload_n hx hb dX3_meanLength_31 rfl (lv_at hl 1 rfl) (lv_i2d hx hb dX3_meanLength_32 k))) ?_
        refine rk_grd (fun hg_33 => ?_)
        refine rk_of (fun _ _ _ _ _ k => lv_ddiv hx hb dX3_meanLength_33 hg_33 k) ?_
        exact hJ34 (FP.ddiv (FP.i2d v27) (FP.i2d v1)) ls (lv_sub hl [] rfl)
      · refine rk_of (fun _ _ _ _ _ k => lv_dconst0 hx hb dX3_meanLength_22 (lv_goto (tgt := 34) hx hb dX3_meanLength_23 (by decide) k)) ?_
        exact hJ34 FP.dconst0 ls (lv_sub hl [] rfl)
  · refine rk_ite (fun _ _ _ _ _ k1 k2 => lv_if_ne (tgt := 14) hx hb dX3_meanLength_7 (by decide) k2 k1) (fun c_7 => ?_) (fun c_7 => ?_)
    · refine rk_of (fun _ _ _ _ _ k => lv_iconst (v := 1) hx hb dX3_meanLength_10 rfl (lv_goto (tgt := 15) hx hb dX3_meanLength_11 (by decide) k)) ?_
      exact hJ15 1 ls (lv_sub hl [1, 0] rfl)
    · refine rk_of (fun _ _ _ _ _ k => lv_iconst (v := 0) hx hb dX3_meanLength_14 rfl k) ?_
      exact hJ15 0 ls (lv_sub hl [1, 0] rfl)
theorem hd_X3_move : yX3_move.cls ≠ "java/lang/invoke/MethodHandle" ∧ yX3_move.cls ≠ "java/lang/invoke/VarHandle" ∧ (parseMethodDescriptor yX3_move.desc).map (fun d => d.parameters.length) = some 2 := by decide +kernel
noncomputable def fn_X3_move (K : zm_K) (a0 : zm_R) (a1 : Int32) (a2 : Int32) : zm_M Int32 :=
  zm_bnd (zm_bnd (zm_is a0 20) fun _ => fn_X3_keeps K a0) fun _ =>
  zm_bnd (zm_bnd (zm_is a0 20) fun _ => fn_X3_isLetting K a0 a1) fun v7 =>
  zm_bnd (α := Int32) (
      if v7 = 0 then
        zm_ret 1
      else
        zm_ret 0
    ) fun b18 =>
  zm_bnd (zm_bnd (zm_is a0 20) fun _ => fn_X3_isThrown K a0 b18 1) fun v19 =>
  if v19 = 0 then
    zm_bnd (fn_X3_isBy K a2) fun v27 =>
    zm_bnd (α := Int32) (
        if v27 = 0 then
          zm_ret 1
        else
          zm_ret 0
      ) fun b38 =>
    zm_bnd (zm_bnd (zm_is a0 20) fun _ => fn_X3_isThrown K a0 b38 2) fun v39 =>
    if v39 = 0 then
      zm_bnd (zm_bnd (zm_is a0 20) fun _ => fn_X3_moves K a0 a1 a2) fun v51 =>
      zm_bnd (zm_bnd (zm_is a0 20) fun _ => fn_X3_ends K a0 v51 3) fun v55 =>
      zm_ret v55
    else
      zm_ret 0
  else
    zm_ret 0
theorem ct_X3_move {l : Launch} {Ω : zm_W} {K : zm_K} (H : zm_H Ω K) (a0 : zm_R) (a1 : Int32) (a2 : Int32) : zm_Ct l Ω yX3_move (ws_ yX3_move cX3_move 3 (Option.some Jvm.ClassFile.FieldType.int)) 6 182 [va_rf a0, .int a1, .int a2] zm_tvI (fn_X3_move K a0 a1 a2) := by
  refine zm_ct H.1 (by decide +kernel) (zl_le (zl_R (zl_I (zl_I zl_nil))) (Nat.le_of_ble_eq_true rfl)) ?_
  intro p e R s m args below meth c n0 k0 C hX ls hl
  have hx := C.1
  have hb := C.2.1
  simp only [zg_I, zg_R, zg_nil] at hl
  have hl : lv_has ls 3 [(0, va_rf a0), (1, .int a1), (2, .int a2)] := hl
  refine rk_rf ?_
  unfold fn_X3_move
  refine rk_of (fun _ _ _ _ _ k => lr_aload_n hx hb dX3_move_0 rfl (lv_at hl 0 rfl) k) ?_
  refine rk_callV hX (cl_V (rest := []) (av := []) C (hc_X3 H) (ct_X3_keeps H a0) (lw_V q2655 q2657 qs45 q112 q2658) ⟨rfl, hd_X3_keeps⟩ ⟨(Nat.le_of_ble_eq_true rfl), (Nat.le_of_ble_eq_true rfl)⟩ rfl hl.1 rfl (zw_le zw_nil (Nat.le_of_ble_eq_true rfl)) dX3_move_1) (fun _ => ?_)
  refine rk_of (fun _ _ _ _ _ k => lr_aload_n hx hb dX3_move_4 rfl (lv_at hl 0 rfl) (lr_aload_n hx hb dX3_move_5 rfl (lv_at hl 0 rfl) (lv_iload_n hx hb dX3_move_6 rfl (lv_at hl 1 rfl) k))) ?_
  refine rk_callI hX (cl_V (rest := [va_rf a0]) (av := [.int a1]) C (hc_X3 H) (ct_X3_isLetting H a0 a1) (lw_V q2722 q2724 qs56 q112 q2725) ⟨rfl, hd_X3_isLetting⟩ ⟨(Nat.le_of_ble_eq_true rfl), (Nat.le_of_ble_eq_true rfl)⟩ rfl hl.1 rfl (zw_le (zw_R zw_nil) (Nat.le_of_ble_eq_true rfl)) dX3_move_7) (fun v7 => ?_)
  refine rk_join (β := Int32) (fun (b18 : Int32) ls => lv_has ls 3 [(0, va_rf a0), (1, .int a1), (2, .int a2)]) (fun (b18 : Int32) ls => F0 m 18 ls [.int b18, va_rf a0]) (fun b18 ls hl => ?_) (fun hJ18 => ?_)
  · refine rk_of (fun _ _ _ _ _ k => lv_iconst (v := 1) hx hb dX3_move_18 rfl k) ?_
    refine rk_callI hX (cl_V (rest := []) (av := [.int b18, .int 1]) C (hc_X3 H) (ct_X3_isThrown H a0 b18 1) (lw_V q2665 q2667 qs46 q112 q2668) ⟨rfl, hd_X3_isThrown⟩ ⟨(Nat.le_of_ble_eq_true rfl), (Nat.le_of_ble_eq_true rfl)⟩ rfl hl.1 rfl (zw_le zw_nil (Nat.le_of_ble_eq_true rfl)) dX3_move_19) (fun v19 => ?_)
    refine rk_ite (fun _ _ _ _ _ k1 k2 => lv_if_ne (tgt := 45) hx hb dX3_move_22 (by decide) k2 k1) (fun c_22 => ?_) (fun c_22 => ?_)
    · refine rk_of (fun _ _ _ _ _ k => lr_aload_n hx hb dX3_move_25 rfl (lv_at hl 0 rfl) (lv_iload_n hx hb dX3_move_26 rfl (lv_at hl 2 rfl) k)) ?_
      refine rk_callI hX (cl_S (rest := [va_rf a0]) C (ct_X3_isBy H a2) (lw_S q2746 q2747 q112 q2748) hd_X3_isBy ⟨(Nat.le_of_ble_eq_true rfl), (Nat.le_of_ble_eq_true rfl)⟩ rfl hl.1 rfl (zw_le (zw_R zw_nil) (Nat.le_of_ble_eq_true rfl)) dX3_move_27) (fun v27 => ?_)
      refine rk_join (β := Int32) (fun (b38 : Int32) ls => lv_has ls 3 [(0, va_rf a0), (1, .int a1), (2, .int a2)]) (fun (b38 : Int32) ls => F0 m 38 ls [.int b38, va_rf a0]) (fun b38 ls hl => ?_) (fun hJ38 => ?_)
      · refine rk_of (fun _ _ _ _ _ k => lv_iconst (v := 2) hx hb dX3_move_38 rfl k) ?_
        refine rk_callI hX (cl_V (rest := []) (av := [.int b38, .int 2]) C (hc_X3 H) (ct_X3_isThrown H a0 b38 2) (lw_V q2665 q2667 qs46 q112 q2668) ⟨rfl, hd_X3_isThrown⟩ ⟨(Nat.le_of_ble_eq_true rfl), (Nat.le_of_ble_eq_true rfl)⟩ rfl hl.1 rfl (zw_le zw_nil (Nat.le_of_ble_eq_true rfl)) dX3_move_39) (fun v39 => ?_)
        refine rk_ite (fun _ _ _ _ _ k1 k2 => lv_if_eq (tgt := 47) hx hb dX3_move_42 (by decide) k1 k2) (fun c_42 => ?_) (fun c_42 => ?_)
        · refine rk_of (fun _ _ _ _ _ k => lr_aload_n hx hb dX3_move_47 rfl (lv_at hl 0 rfl) (lr_aload_n hx hb dX3_move_48 rfl (lv_at hl 0 rfl) (lv_iload_n hx hb dX3_move_49 rfl (lv_at hl 1 rfl) (lv_iload_n hx hb dX3_move_50 rfl (lv_at hl 2 rfl) k)))) ?_
          refine rk_callI hX (cl_V (rest := [va_rf a0]) (av := [.int a1, .int a2]) C (hc_X3 H) (ct_X3_moves H a0 a1 a2) (lw_V q2749 q2751 qs61 q112 q2752) ⟨rfl, hd_X3_moves⟩ ⟨(Nat.le_of_ble_eq_true rfl), (Nat.le_of_ble_eq_true rfl)⟩ rfl hl.1 rfl (zw_le (zw_R zw_nil) (Nat.le_of_ble_eq_true rfl)) dX3_move_51) (fun v51 => ?_)
          refine rk_of (fun _ _ _ _ _ k => lv_iconst (v := 3) hx hb dX3_move_54 rfl k) ?_
          refine rk_callI hX (cl_V (rest := []) (av := [.int v51, .int 3]) C (hc_X3 H) (ct_X3_ends H a0 v51 3) (lw_V q2673 q2675 qs48 q112 q2676) ⟨rfl, hd_X3_ends⟩ ⟨(Nat.le_of_ble_eq_true rfl), (Nat.le_of_ble_eq_true rfl)⟩ rfl hl.1 rfl (zw_le zw_nil (Nat.le_of_ble_eq_true rfl)) dX3_move_55) (fun v55 => ?_)
          exact rk_top (rf_iret C rfl dX3_move_58)
        · refine rk_of (fun _ _ _ _ _ k => lv_iconst (v := 0) hx hb dX3_move_45 rfl k) ?_
          exact rk_top (rf_iret C rfl dX3_move_46)
      · refine rk_ite (fun _ _ _ _ _ k1 k2 => lv_if_ne (tgt := 37) hx hb dX3_move_30 (by decide) k2 k1) (fun c_30 => ?_) (fun c_30 => ?_)
        · refine rk_of (fun _ _ _ _ _ k => lv_iconst (v := 1) hx hb dX3_move_33 rfl (lv_goto (tgt := 38) hx hb dX3_move_34 (by decide) k)) ?_
          exact hJ38 1 ls (lv_sub hl [0, 1, 2] rfl)
        · refine rk_of (fun _ _ _ _ _ k => lv_iconst (v := 0) hx hb dX3_move_37 rfl k) ?_
          exact hJ38 0 ls (lv_sub hl [0, 1, 2] rfl)
    · refine rk_of (fun _ _ _ _ _ k => lv_iconst (v := 0) hx hb dX3_move_45 rfl k) ?_
      exact rk_top (rf_iret C rfl dX3_move_46)
  · refine rk_ite (fun _ _ _ _ _ k1 k2 => lv_if_ne (tgt := 17) hx hb dX3_move_10 (by decide) k2 k1) (fun c_10 => ?_) (fun c_10 => ?_)
    · refine rk_of (fun _ _ _ _ _ k => lv_iconst (v := 1) hx hb dX3_move_13 rfl (lv_goto (tgt := 18) hx hb dX3_move_14 (by decide) k)) ?_
      exact hJ18 1 ls (lv_sub hl [0, 1, 2] rfl)
    · refine rk_of (fun _ _ _ _ _ k => lv_iconst (v := 0) hx hb dX3_move_17 rfl k) ?_
      exact hJ18 0 ls (lv_sub hl [0, 1, 2] rfl)
theorem hd_X3_needs : yX3_needs.cls ≠ "java/lang/invoke/MethodHandle" ∧ yX3_needs.cls ≠ "java/lang/invoke/VarHandle" ∧ (parseMethodDescriptor yX3_needs.desc).map (fun d => d.parameters.length) = some 0 := by decide +kernel
noncomputable def fn_X3_needs_9 (K : zm_K) (p0 : zm_R) : Nat → Int32 → Int32 → zm_M (Int32)
  | 0, _, _ => zm_fl
  | n + 1, x1, x2 =>
    if 600 ≤ x2 then
      zm_ret x1
    else
      zm_bnd (zm_bnd (zm_is p0 20) fun _ => fn_X3_wishesOver K p0 x2) fun v19 =>
      zm_bnd (fn_X3_greater K x1 v19) fun v22 =>
      fn_X3_needs_9 K p0 n v22 (x2 + 1)
noncomputable def fn_X3_needs (K : zm_K) (a0 : zm_R) : zm_M Int32 :=
  zm_bnd (zm_putF K a0 20 5 (.int 0)) fun _ =>
  zm_bnd (α := Int32) (fn_X3_needs_9 K a0 zm_N 0 0) fun b32 =>
  zm_ret b32
theorem rf_X3_needs_9 (H : zm_H Ω K) (C : zm_C p l R s m args meth c Ω lw_all cX3_needs yX3_needs.cls yX3_needs.name 3 4 130 (Option.some Jvm.ClassFile.FieldType.int)) (hX : zm_XO p l e R s m args below meth c Ω n0 k0 (zm_QFs below args s Ω n0 k0 zm_tvI)) (p0 : zm_R) : ∀ (n : Nat) (x1 : Int32) (x2 : Int32) (J : (Int32) → zm_M Int32) (ls : Array Slot), lv_has ls 3 [(0, va_rf p0), (1, .int x1), (2, .int x2)] → (∀ (b : Int32) (ls : Array Slot), lv_has ls 3 [(1, .int b)] → zm_RK p l e R s m args below meth c Ω n0 k0 (zm_QFs below args s Ω n0 k0 zm_tvI) (zm_ret b) J (F0 m 32 ls [])) → zm_RK p l e R s m args below meth c Ω n0 k0 (zm_QFs below args s Ω n0 k0 zm_tvI) (fn_X3_needs_9 K p0 n x1 x2) J (F0 m 9 ls []) := by
  have hx := C.1
  have hb := C.2.1
  intro n
  induction n with
  | zero => intro x1 x2 J ls hl hJ; exact rk_fl
  | succ n ih =>
    intro x1 x2 J ls hl hJ
    unfold fn_X3_needs_9
    refine rk_ite (fun _ _ _ _ _ k1 k2 => lv_iload_n hx hb dX3_needs_9 rfl (lv_at hl 2 rfl) (lv_sipush (v := 600) hx hb dX3_needs_10 rfl (lv_icmp_ge (tgt := 32) hx hb dX3_needs_13 (by decide) k1 k2))) (fun c_13 => ?_) (fun c_13 => ?_)
    · exact hJ x1 ls (lv_sub hl [1] rfl)
    · refine rk_of (fun _ _ _ _ _ k => lv_iload_n hx hb dX3_needs_16 rfl (lv_at hl 1 rfl) (lr_aload_n hx hb dX3_needs_17 rfl (lv_at hl 0 rfl) (lv_iload_n hx hb dX3_needs_18 rfl (lv_at hl 2 rfl) k))) ?_
      refine rk_callI hX (cl_V (rest := [.int x1]) (av := [.int x2]) C (hc_X3 H) (ct_X3_wishesOver H p0 x2) (lw_V q2822 q2824 qs69 q112 q2825) ⟨rfl, hd_X3_wishesOver⟩ ⟨(Nat.le_of_ble_eq_true rfl), (Nat.le_of_ble_eq_true rfl)⟩ rfl hl.1 rfl (zw_le (zw_I zw_nil) (Nat.le_of_ble_eq_true rfl)) dX3_needs_19) (fun v19 => ?_)
      refine rk_callI hX (cl_S (rest := []) C (ct_X3_greater H x1 v19) (lw_S q2756 q2757 q112 q2758) hd_X3_greater ⟨(Nat.le_of_ble_eq_true rfl), (Nat.le_of_ble_eq_true rfl)⟩ rfl hl.1 rfl (zw_le zw_nil (Nat.le_of_ble_eq_true rfl)) dX3_needs_22) (fun v22 => ?_)
      refine rk_ofs (fun _ _ _ _ _ k => lr_istore_n hx hb dX3_needs_25 rfl hl (Nat.le_of_ble_eq_true rfl) [0, 2] rfl ⟨va_rf_cat _, ⟨trivial, trivial⟩⟩ k) (fun ls hl => ?_)
      refine rk_ofs (fun _ _ _ _ _ k => lr_iinc (v := x2 + 1) hx hb dX3_needs_26 hl (k := 2) rfl rfl (Nat.le_of_ble_eq_true rfl) [0, 1] rfl ⟨rfl, ⟨trivial, trivial⟩⟩ k) (fun ls hl => ?_)
      refine rk_of (fun _ _ _ _ _ k => lv_goto (tgt := 9) hx hb dX3_needs_29 (by decide) k) ?_
      exact ih v22 (x2 + 1) J ls (lv_sub hl [2, 1, 0] rfl) hJ
theorem ct_X3_needs {l : Launch} {Ω : zm_W} {K : zm_K} (H : zm_H Ω K) (a0 : zm_R) : zm_Ct l Ω yX3_needs (ws_ yX3_needs cX3_needs 3 (Option.some Jvm.ClassFile.FieldType.int)) 4 130 [va_rf a0] zm_tvI (fn_X3_needs K a0) := by
  refine zm_ct H.1 (by decide +kernel) (zl_le (zl_R zl_nil) (Nat.le_of_ble_eq_true rfl)) ?_
  intro p e R s m args below meth c n0 k0 C hX ls hl
  have hx := C.1
  have hb := C.2.1
  simp only [zg_R, zg_nil] at hl
  have hl : lv_has ls 3 [(0, va_rf a0)] := hl
  refine rk_rf ?_
  unfold fn_X3_needs
  refine rk_of (fun _ _ _ _ _ k => lr_aload_n hx hb dX3_needs_0 rfl (lv_at hl 0 rfl) (lv_iconst (v := 0) hx hb dX3_needs_1 rfl k)) ?_
  refine rk_put C H.2.2.1 (hc_X3 H) (k := 5) (Nat.le_of_ble_eq_true rfl) in_X3 (ty0 := tyX3) tyX3_ok nmX3 q2582 (fun _ h => h) (Or.inl rfl) rfl rfl dX3_needs_2 ?_
  refine rk_ofs (fun _ _ _ _ _ k => lv_iconst (v := 0) hx hb dX3_needs_5 rfl (lr_istore_n hx hb dX3_needs_6 rfl hl (Nat.le_of_ble_eq_true rfl) [0] rfl ⟨va_rf_cat _, trivial⟩ k)) (fun ls hl => ?_)
  refine rk_ofs (fun _ _ _ _ _ k => lv_iconst (v := 0) hx hb dX3_needs_7 rfl (lr_istore_n hx hb dX3_needs_8 rfl hl (Nat.le_of_ble_eq_true rfl) [0, 1] rfl ⟨rfl, ⟨trivial, trivial⟩⟩ k)) (fun ls hl => ?_)
  refine rk_join (β := Int32) (fun (b32 : Int32) ls => lv_has ls 3 [(1, .int b32)]) (fun (b32 : Int32) ls => F0 m 32 ls []) (fun b32 ls hl => ?_) (fun hJ32 => ?_)
  · refine rk_of (fun _ _ _ _ _ k => lv_iload_n hx hb dX3_needs_32 rfl (lv_at hl 0 rfl) k) ?_
    exact rk_top (rf_iret C rfl dX3_needs_33)
  · exact rf_X3_needs_9 H C hX a0 zm_N 0 0 _ ls (lv_sub hl [2, 1, 0] rfl) hJ32
theorem hd_X3_needsAgain : yX3_needsAgain.cls ≠ "java/lang/invoke/MethodHandle" ∧ yX3_needsAgain.cls ≠ "java/lang/invoke/VarHandle" ∧ (parseMethodDescriptor yX3_needsAgain.desc).map (fun d => d.parameters.length) = some 0 := by decide +kernel
noncomputable def fn_X3_needsAgain_27 (K : zm_K) (p0 : zm_R) (p1 : Int32) (p2 : Int32) (p3 : Int32) : Nat → Int32 → Int32 → zm_M (Int32)
  | 0, _, _ => zm_fl
  | n + 1, x4, x5 =>
    zm_bnd (zm_getR p0 20 0) fun v30 =>
    zm_bnd (zm_aldI .int v30 2) fun v34 =>
    if v34 ≤ x5 then
      zm_ret x4
    else
      zm_bnd (α := Int32) (
          if ((p2 >>> (x5 &&& 31)) &&& 1) = 0 then
            if x4 < 0 then
              zm_ret 1
            else
              zm_bnd (zm_bnd (zm_is p0 20) fun _ => fn_X3_ofWish K p0 x5 0) fun v56 =>
              zm_bnd (zm_bnd (zm_is p0 20) fun _ => fn_X3_ofWish K p0 x4 0) fun v63 =>
              if v63 ≤ v56 then
                zm_ret 0
              else
                zm_ret 1
          else
            zm_ret 0
        ) fun b74 =>
      zm_bnd (α := Int32) (
          if b74 = 0 then
            zm_ret x4
          else
            zm_ret x5
        ) fun b88 =>
      fn_X3_needsAgain_27 K p0 p1 p2 p3 n b88 (x5 + 1)
noncomputable def fn_X3_needsAgain_106 (K : zm_K) (p0 : zm_R) (p1 : Int32) (p2 : Int32) (p3 : Int32) (p4 : Int32) : Nat → Int32 → zm_M (Int32)
  | 0, _ => zm_fl
  | n + 1, x5 =>
    if p1 ≤ x5 then
      zm_ret x5
    else
      zm_bnd (zm_getR p0 20 12) fun v113 =>
      zm_bnd (zm_aldI .int v113 x5) fun v118 =>
      zm_bnd (zm_bnd (zm_is p0 20) fun _ => fn_X3_ofWish K p0 p4 0) fun v123 =>
      if v118 ≤ v123 then
        zm_ret x5
      else
        fn_X3_needsAgain_106 K p0 p1 p2 p3 p4 n (x5 + 1)
noncomputable def fn_X3_needsAgain_11 (K : zm_K) (p0 : zm_R) : Nat → Int32 → Int32 → Int32 → zm_M (Int32)
  | 0, _, _, _ => zm_fl
  | n + 1, x1, x2, x3 =>
    zm_bnd (zm_getR p0 20 0) fun v13 =>
    zm_bnd (zm_aldI .int v13 2) fun v17 =>
    if v17 ≤ x3 then
      zm_ret x1
    else
      zm_bnd (α := Int32) (fn_X3_needsAgain_27 K p0 x1 x2 x3 zm_N (-1) 0) fun b96 =>
      zm_bnd (α := Int32) (fn_X3_needsAgain_106 K p0 x1 (x2 ||| (1 <<< (b96 &&& 31))) x3 b96 zm_N 0) fun b135 =>
      zm_bnd (zm_getR p0 20 12) fun v136 =>
      zm_bnd (zm_bnd (zm_is p0 20) fun _ => fn_X3_ofWish K p0 b96 1) fun v145 =>
      zm_bnd (zm_astI K .int v136 b135 v145) fun _ =>
      zm_bnd (fn_X3_greater K x1 (b135 + 1)) fun v154 =>
      fn_X3_needsAgain_11 K p0 n v154 (x2 ||| (1 <<< (b96 &&& 31))) (x3 + 1)
noncomputable def fn_X3_needsAgain (K : zm_K) (a0 : zm_R) : zm_M Int32 :=
  zm_bnd (zm_putF K a0 20 5 (.int 0)) fun _ =>
  zm_bnd (α := Int32) (fn_X3_needsAgain_11 K a0 zm_N 0 0 0) fun b164 =>
  zm_ret b164
theorem rf_X3_needsAgain_27 (H : zm_H Ω K) (C : zm_C p l R s m args meth c Ω lw_all cX3_needsAgain yX3_needsAgain.cls yX3_needsAgain.name 7 3 107 (Option.some Jvm.ClassFile.FieldType.int)) (hX : zm_XO p l e R s m args below meth c Ω n0 k0 (zm_QFs below args s Ω n0 k0 zm_tvI)) (p0 : zm_R) (p1 : Int32) (p2 : Int32) (p3 : Int32) : ∀ (n : Nat) (x4 : Int32) (x5 : Int32) (J : (Int32) → zm_M Int32) (ls : Array Slot), lv_has ls 7 [(0, va_rf p0), (1, .int p1), (2, .int p2), (3, .int p3), (4, .int x4), (5, .int x5)] → (∀ (b : Int32) (ls : Array Slot), lv_has ls 7 [(0, va_rf p0), (1, .int p1), (2, .int p2), (3, .int p3), (4, .int b)] → zm_RK p l e R s m args below meth c Ω n0 k0 (zm_QFs below args s Ω n0 k0 zm_tvI) (zm_ret b) J (F0 m 96 ls [])) → zm_RK p l e R s m args below meth c Ω n0 k0 (zm_QFs below args s Ω n0 k0 zm_tvI) (fn_X3_needsAgain_27 K p0 p1 p2 p3 n x4 x5) J (F0 m 27 ls []) := by
  have hx := C.1
  have hb := C.2.1
  intro n
  induction n with
  | zero => intro x4 x5 J ls hl hJ; exact rk_fl
  | succ n ih =>
    intro x4 x5 J ls hl hJ
    unfold fn_X3_needsAgain_27
    refine rk_of (fun _ _ _ _ _ k => lv_iload hx hb dX3_needsAgain_27 (lv_at hl 5 rfl) (lr_aload_n hx hb dX3_needsAgain_29 rfl (lv_at hl 0 rfl) k)) ?_
    refine rk_get zm_rdR_eq C (hc_X3 H) (k := 0) (Nat.le_of_ble_eq_true rfl) in_X3 q2577 (fun _ h => h) dX3_needsAgain_30 (fun v30 => ?_)
    refine rk_of (fun _ _ _ _ _ k => lv_iconst (v := 2) hx hb dX3_needsAgain_33 rfl k) ?_
    refine rk_iald C dX3_needsAgain_34 (fun v34 => ?_)
    refine rk_ite (fun _ _ _ _ _ k1 k2 => lv_icmp_ge (tgt := 96) hx hb dX3_needsAgain_35 (by decide) k1 k2) (fun c_35 => ?_) (fun c_35 => ?_)
    · exact hJ x4 ls (lv_sub hl [0, 1, 2, 3, 4] rfl)
    · refine rk_of (fun _ _ _ _ _ k => lv_iload_n hx hb dX3_needsAgain_38 rfl (lv_at hl 2 rfl) (lv_iload hx hb dX3_needsAgain_39 (lv_at hl 5 rfl) (lv_ishr hx hb dX3_needsAgain_41 (lv_iconst (v := 1) hx hb dX3_needsAgain_42 rfl (lv_iand hx hb dX3_needsAgain_43 k))))) ?_
      refine rk_join (β := Int32) (fun (b74 : Int32) ls => lv_has ls 7 [(0, va_rf p0), (1, .int p1), (2, .int p2), (3, .int p3), (4, .int x4), (5, .int x5)]) (fun (b74 : Int32) ls => F0 m 74 ls [.int b74]) (fun b74 ls hl => ?_) (fun hJ74 => ?_)
      · refine rk_ofs (fun _ _ _ _ _ k => lr_istore hx hb dX3_needsAgain_74 hl (Nat.le_of_ble_eq_true rfl) [0, 1, 2, 3, 4, 5] rfl ⟨trivial, ⟨trivial, ⟨trivial, ⟨trivial, ⟨trivial, ⟨rfl, trivial⟩⟩⟩⟩⟩⟩ k) (fun ls hl => ?_)
        refine rk_of (fun _ _ _ _ _ k => lv_iload hx hb dX3_needsAgain_76 (lv_at hl 0 rfl) k) ?_
        refine rk_join (β := Int32) (fun (b88 : Int32) ls => lv_has ls 7 [(0, va_rf p0), (1, .int p1), (2, .int p2), (3, .int p3), (5, .int x5)]) (fun (b88 : Int32) ls => F0 m 88 ls [.int b88]) (fun b88 ls hl => ?_) (fun hJ88 => ?_)
        · refine rk_ofs (fun _ _ _ _ _ k => lr_istore hx hb dX3_needsAgain_88 hl (Nat.le_of_ble_eq_true rfl) [0, 1, 2, 3, 4] rfl ⟨trivial, ⟨trivial, ⟨trivial, ⟨rfl, ⟨trivial, trivial⟩⟩⟩⟩⟩ k) (fun ls hl => ?_)
          refine rk_ofs (fun _ _ _ _ _ k => lr_iinc (v := x5 + 1) hx hb dX3_needsAgain_90 hl (k := 5) rfl rfl (Nat.le_of_ble_eq_true rfl) [0, 1, 2, 3, 4] rfl ⟨rfl, ⟨trivial, ⟨trivial, ⟨trivial, ⟨trivial, trivial⟩⟩⟩⟩⟩ k) (fun ls hl => ?_)
          refine rk_of (fun _ _ _ _ _ k => lv_goto (tgt := 27) hx hb dX3_needsAgain_93 (by decide) k) ?_
          exact ih b88 (x5 + 1) J ls (lv_sub hl [2, 3, 4, 5, 1, 0] rfl) hJ
        · refine rk_ite (fun _ _ _ _ _ k1 k2 => lv_if_eq (tgt := 86) hx hb dX3_needsAgain_78 (by decide) k1 k2) (fun c_78 => ?_) (fun c_78 => ?_)
          · refine rk_of (fun _ _ _ _ _ k => lv_iload hx hb dX3_needsAgain_86 (lv_at hl 5 rfl) k) ?_
            exact hJ88 x4 ls (lv_sub hl [1, 2, 3, 4, 6] rfl)
          · refine rk_of (fun _ _ _ _ _ k => lv_iload hx hb dX3_needsAgain_81 (lv_at hl 6 rfl) (lv_goto (tgt := 88) hx hb dX3_needsAgain_83 (by decide) k)) ?_
            exact hJ88 x5 ls (lv_sub hl [1, 2, 3, 4, 6] rfl)
      · refine rk_ite (fun _ _ _ _ _ k1 k2 => lv_if_ne (tgt := 73) hx hb dX3_needsAgain_44 (by decide) k2 k1) (fun c_44 => ?_) (fun c_44 => ?_)
        · refine rk_ite (fun _ _ _ _ _ k1 k2 => lv_iload hx hb dX3_needsAgain_47 (lv_at hl 4 rfl) (lv_if_lt (tgt := 69) hx hb dX3_needsAgain_49 (by decide) k1 k2)) (fun c_49 => ?_) (fun c_49 => ?_)
          · refine rk_of (fun _ _ _ _ _ k => lv_iconst (v := 1) hx hb dX3_needsAgain_69 rfl (lv_goto (tgt := 74) hx hb dX3_needsAgain_70 (by decide) k)) ?_
            exact hJ74 1 ls (lv_sub hl [0, 1, 2, 3, 4, 5] rfl)
          · refine rk_of (fun _ _ _ _ _ k => lr_aload_n hx hb dX3_needsAgain_52 rfl (lv_at hl 0 rfl) (lv_iload hx hb dX3_needsAgain_53 (lv_at hl 5 rfl) (lv_iconst (v := 0) hx hb dX3_needsAgain_55 rfl k))) ?_
            refine rk_callI hX (cl_V (rest := []) (av := [.int x5, .int 0]) C (hc_X3 H) (ct_X3_ofWish H p0 x5 0) (lw_V q2814 q2816 qs68 q112 q2817) ⟨rfl, hd_X3_ofWish⟩ ⟨(Nat.le_of_ble_eq_true rfl), (Nat.le_of_ble_eq_true rfl)⟩ rfl hl.1 rfl (zw_le zw_nil (Nat.le_of_ble_eq_true rfl)) dX3_needsAgain_56) (fun v56 => ?_)
            refine rk_of (fun _ _ _ _ _ k => lr_aload_n hx hb dX3_needsAgain_59 rfl (lv_at hl 0 rfl) (lv_iload hx hb dX3_needsAgain_60 (lv_at hl 4 rfl) (lv_iconst (v := 0) hx hb dX3_needsAgain_62 rfl k))) ?_
            refine rk_callI hX (cl_V (rest := [.int v56]) (av := [.int x4, .int 0]) C (hc_X3 H) (ct_X3_ofWish H p0 x4 0) (lw_V q2814 q2816 qs68 q112 q2817) ⟨rfl, hd_X3_ofWish⟩ ⟨(Nat.le_of_ble_eq_true rfl), (Nat.le_of_ble_eq_true rfl)⟩ rfl hl.1 rfl (zw_le (zw_I zw_nil) (Nat.le_of_ble_eq_true rfl)) dX3_needsAgain_63) (fun v63 => ?_)
            refine rk_ite (fun _ _ _ _ _ k1 k2 => lv_icmp_ge (tgt := 73) hx hb dX3_needsAgain_66 (by decide) k1 k2) (fun c_66 => ?_) (fun c_66 => ?_)
            · refine rk_of (fun _ _ _ _ _ k => lv_iconst (v := 0) hx hb dX3_needsAgain_73 rfl k) ?_
              exact hJ74 0 ls (lv_sub hl [0, 1, 2, 3, 4, 5] rfl)
            · refine rk_of (fun _ _ _ _ _ k => lv_iconst (v := 1) hx hb dX3_needsAgain_69 rfl (lv_goto (tgt := 74) hx hb dX3_needsAgain_70 (by decide) k)) ?_
              exact hJ74 1 ls (lv_sub hl [0, 1, 2, 3, 4, 5] rfl)
        · refine rk_of (fun _ _ _ _ _ k => lv_iconst (v := 0) hx hb dX3_needsAgain_73 rfl k) ?_
          exact hJ74 0 ls (lv_sub hl [0, 1, 2, 3, 4, 5] rfl)
theorem rf_X3_needsAgain_106 (H : zm_H Ω K) (C : zm_C p l R s m args meth c Ω lw_all cX3_needsAgain yX3_needsAgain.cls yX3_needsAgain.name 7 3 107 (Option.some Jvm.ClassFile.FieldType.int)) (hX : zm_XO p l e R s m args below meth c Ω n0 k0 (zm_QFs below args s Ω n0 k0 zm_tvI)) (p0 : zm_R) (p1 : Int32) (p2 : Int32) (p3 : Int32) (p4 : Int32) : ∀ (n : Nat) (x5 : Int32) (J : (Int32) → zm_M Int32) (ls : Array Slot), lv_has ls 7 [(0, va_rf p0), (1, .int p1), (2, .int p2), (3, .int p3), (4, .int p4), (5, .int x5)] → (∀ (b : Int32) (ls : Array Slot), lv_has ls 7 [(0, va_rf p0), (1, .int p1), (2, .int p2), (3, .int p3), (4, .int p4), (5, .int b)] → zm_RK p l e R s m args below meth c Ω n0 k0 (zm_QFs below args s Ω n0 k0 zm_tvI) (zm_ret b) J (F0 m 135 ls [])) → zm_RK p l e R s m args below meth c Ω n0 k0 (zm_QFs below args s Ω n0 k0 zm_tvI) (fn_X3_needsAgain_106 K p0 p1 p2 p3 p4 n x5) J (F0 m 106 ls []) := by
  have hx := C.1
  have hb := C.2.1
  intro n
  induction n with
  | zero => intro x5 J ls hl hJ; exact rk_fl
  | succ n ih =>
    intro x5 J ls hl hJ
    unfold fn_X3_needsAgain_106
    refine rk_ite (fun _ _ _ _ _ k1 k2 => lv_iload hx hb dX3_needsAgain_106 (lv_at hl 5 rfl) (lv_iload_n hx hb dX3_needsAgain_108 rfl (lv_at hl 1 rfl) (lv_icmp_ge (tgt := 135) hx hb dX3_needsAgain_109 (by decide) k1 k2))) (fun c_109 => ?_) (fun c_109 => ?_)
    · exact hJ x5 ls (lv_sub hl [0, 1, 2, 3, 4, 5] rfl)
    · refine rk_of (fun _ _ _ _ _ k => lr_aload_n hx hb dX3_needsAgain_112 rfl (lv_at hl 0 rfl) k) ?_
      refine rk_get zm_rdR_eq C (hc_X3 H) (k := 12) (Nat.le_of_ble_eq_true rfl) in_X3 q2589 (fun _ h => h) dX3_needsAgain_113 (fun v113 => ?_)
      refine rk_of (fun _ _ _ _ _ k => lv_iload hx hb dX3_needsAgain_116 (lv_at hl 5 rfl) k) ?_
      refine rk_iald C dX3_needsAgain_118 (fun v118 => ?_)
      refine rk_of (fun _ _ _ _ _ k => lr_aload_n hx hb dX3_needsAgain_119 rfl (lv_at hl 0 rfl) (lv_iload hx hb dX3_needsAgain_120 (lv_at hl 4 rfl) (lv_iconst (v := 0) hx hb dX3_needsAgain_122 rfl k))) ?_
      refine rk_callI hX (cl_V (rest := [.int v118]) (av := [.int p4, .int 0]) C (hc_X3 H) (ct_X3_ofWish H p0 p4 0) (lw_V q2814 q2816 qs68 q112 q2817) ⟨rfl, hd_X3_ofWish⟩ ⟨(Nat.le_of_ble_eq_true rfl), (Nat.le_of_ble_eq_true rfl)⟩ rfl hl.1 rfl (zw_le (zw_I zw_nil) (Nat.le_of_ble_eq_true rfl)) dX3_needsAgain_123) (fun v123 => ?_)
      refine rk_ite (fun _ _ _ _ _ k1 k2 => lv_icmp_le (tgt := 135) hx hb dX3_needsAgain_126 (by decide) k1 k2) (fun c_126 => ?_) (fun c_126 => ?_)
      · exact hJ x5 ls (lv_sub hl [0, 1, 2, 3, 4, 5] rfl)
      · refine rk_ofs (fun _ _ _ _ _ k => lr_iinc (v := x5 + 1) hx hb dX3_needsAgain_129 hl (k := 5) rfl rfl (Nat.le_of_ble_eq_true rfl) [0, 1, 2, 3, 4] rfl ⟨trivial, ⟨trivial, ⟨trivial, ⟨trivial, ⟨rfl, trivial⟩⟩⟩⟩⟩ k) (fun ls hl => ?_)
        refine rk_of (fun _ _ _ _ _ k => lv_goto (tgt := 106) hx hb dX3_needsAgain_132 (by decide) k) ?_
        exact ih (x5 + 1) J ls (lv_sub hl [1, 2, 3, 4, 5, 0] rfl) hJ
theorem rf_X3_needsAgain_11 (H : zm_H Ω K) (C : zm_C p l R s m args meth c Ω lw_all cX3_needsAgain yX3_needsAgain.cls yX3_needsAgain.name 7 3 107 (Option.some Jvm.ClassFile.FieldType.int)) (hX : zm_XO p l e R s m args below meth c Ω n0 k0 (zm_QFs below args s Ω n0 k0 zm_tvI)) (p0 : zm_R) : ∀ (n : Nat) (x1 : Int32) (x2 : Int32) (x3 : Int32) (J : (Int32) → zm_M Int32) (ls : Array Slot), lv_has ls 7 [(0, va_rf p0), (1, .int x1), (2, .int x2), (3, .int x3)] → (∀ (b : Int32) (ls : Array Slot), lv_has ls 7 [(1, .int b)] → zm_RK p l e R s m args below meth c Ω n0 k0 (zm_QFs below args s Ω n0 k0 zm_tvI) (zm_ret b) J (F0 m 164 ls [])) → zm_RK p l e R s m args below meth c Ω n0 k0 (zm_QFs below args s Ω n0 k0 zm_tvI) (fn_X3_needsAgain_11 K p0 n x1 x2 x3) J (F0 m 11 ls []) := by
  have hx := C.1
  have hb := C.2.1
  intro n
  induction n with
  | zero => intro x1 x2 x3 J ls hl hJ; exact rk_fl
  | succ n ih =>
    intro x1 x2 x3 J ls hl hJ
    unfold fn_X3_needsAgain_11
    refine rk_of (fun _ _ _ _ _ k => lv_iload_n hx hb dX3_needsAgain_11 rfl (lv_at hl 3 rfl) (lr_aload_n hx hb dX3_needsAgain_12 rfl (lv_at hl 0 rfl) k)) ?_
    refine rk_get zm_rdR_eq C (hc_X3 H) (k := 0) (Nat.le_of_ble_eq_true rfl) in_X3 q2577 (fun _ h => h) dX3_needsAgain_13 (fun v13 => ?_)
    refine rk_of (fun _ _ _ _ _ k => lv_iconst (v := 2) hx hb dX3_needsAgain_16 rfl k) ?_
    refine rk_iald C dX3_needsAgain_17 (fun v17 => ?_)
    refine rk_ite (fun _ _ _ _ _ k1 k2 => lv_icmp_ge (tgt := 164) hx hb dX3_needsAgain_18 (by decide) k1 k2) (fun c_18 => ?_) (fun c_18 => ?_)
    · exact hJ x1 ls (lv_sub hl [1] rfl)
    · refine rk_ofs (fun _ _ _ _ _ k => lv_iconst (v := (-1)) hx hb dX3_needsAgain_21 rfl (lr_istore hx hb dX3_needsAgain_22 hl (Nat.le_of_ble_eq_true rfl) [0, 1, 2, 3] rfl ⟨trivial, ⟨trivial, ⟨trivial, ⟨rfl, trivial⟩⟩⟩⟩ k)) (fun ls hl => ?_)
      refine rk_ofs (fun _ _ _ _ _ k => lv_iconst (v := 0) hx hb dX3_needsAgain_24 rfl (lr_istore hx hb dX3_needsAgain_25 hl (Nat.le_of_ble_eq_true rfl) [0, 1, 2, 3, 4] rfl ⟨rfl, ⟨trivial, ⟨trivial, ⟨trivial, ⟨trivial, trivial⟩⟩⟩⟩⟩ k)) (fun ls hl => ?_)
      refine rk_join (β := Int32) (fun (b96 : Int32) ls => lv_has ls 7 [(0, va_rf p0), (1, .int x1), (2, .int x2), (3, .int x3), (4, .int b96)]) (fun (b96 : Int32) ls => F0 m 96 ls []) (fun b96 ls hl => ?_) (fun hJ96 => ?_)
      · refine rk_ofs (fun _ _ _ _ _ k => lv_iload_n hx hb dX3_needsAgain_96 rfl (lv_at hl 2 rfl) (lv_iconst (v := 1) hx hb dX3_needsAgain_97 rfl (lv_iload hx hb dX3_needsAgain_98 (lv_at hl 4 rfl) (lv_ishl hx hb dX3_needsAgain_100 (lv_ior hx hb dX3_needsAgain_101 (lr_istore_n hx hb dX3_needsAgain_102 rfl hl (Nat.le_of_ble_eq_true rfl) [0, 1, 3, 4] rfl ⟨trivial, ⟨rfl, ⟨trivial, ⟨trivial, trivial⟩⟩⟩⟩ k)))))) (fun ls hl => ?_)
        refine rk_ofs (fun _ _ _ _ _ k => lv_iconst (v := 0) hx hb dX3_needsAgain_103 rfl (lr_istore hx hb dX3_needsAgain_104 hl (Nat.le_of_ble_eq_true rfl) [0, 1, 2, 3, 4] rfl ⟨trivial, ⟨trivial, ⟨trivial, ⟨trivial, ⟨rfl, trivial⟩⟩⟩⟩⟩ k)) (fun ls hl => ?_)
        refine rk_join (β := Int32) (fun (b135 : Int32) ls => lv_has ls 7 [(0, va_rf p0), (1, .int x1), (2, .int (x2 ||| (1 <<< (b96 &&& 31)))), (3, .int x3), (4, .int b96), (5, .int b135)]) (fun (b135 : Int32) ls => F0 m 135 ls []) (fun b135 ls hl => ?_) (fun hJ135 => ?_)
        · refine rk_of (fun _ _ _ _ _ k => lr_aload_n hx hb dX3_needsAgain_135 rfl (lv_at hl 0 rfl) k) ?_
          refine rk_get zm_rdR_eq C (hc_X3 H) (k := 12) (Nat.le_of_ble_eq_true rfl) in_X3 q2589 (fun _ h => h) dX3_needsAgain_136 (fun v136 => ?_)
          refine rk_of (fun _ _ _ _ _ k => lv_iload hx hb dX3_needsAgain_139 (lv_at hl 5 rfl) (lr_aload_n hx hb dX3_needsAgain_141 rfl (lv_at hl 0 rfl) (lv_iload hx hb dX3_needsAgain_142 (lv_at hl 4 rfl) (lv_iconst (v := 1) hx hb dX3_needsAgain_144 rfl k)))) ?_
          refine rk_callI hX (cl_V (rest := [.int b135, va_rf v136]) (av := [.int b96, .int 1]) C (hc_X3 H) (ct_X3_ofWish H p0 b96 1) (lw_V q2814 q2816 qs68 q112 q2817) ⟨rfl, hd_X3_ofWish⟩ ⟨(Nat.le_of_ble_eq_true rfl), (Nat.le_of_ble_eq_true rfl)⟩ rfl hl.1 rfl (zw_le (zw_I (zw_R zw_nil)) (Nat.le_of_ble_eq_true rfl)) dX3_needsAgain_145) (fun v145 => ?_)
          refine rk_iast C H.2.2.1 dX3_needsAgain_148 ?_
          refine rk_of (fun _ _ _ _ _ k => lv_iload_n hx hb dX3_needsAgain_149 rfl (lv_at hl 1 rfl) (lv_iload hx hb dX3_needsAgain_150 (lv_at hl 5 rfl) (lv_iconst (v := 1) hx hb dX3_needsAgain_152 rfl (lv_iadd hx hb dX3_needsAgain_153 k)))) ?_
          refine rk_callI hX (cl_S (rest := []) C (ct_X3_greater H x1 (b135 + 1)) (lw_S q2756 q2757 q112 q2758) hd_X3_greater ⟨(Nat.le_of_ble_eq_true rfl), (Nat.le_of_ble_eq_true rfl)⟩ rfl hl.1 rfl (zw_le zw_nil (Nat.le_of_ble_eq_true rfl)) dX3_needsAgain_154) (fun v154 => ?_)
          refine rk_ofs (fun _ _ _ _ _ k => lr_istore_n hx hb dX3_needsAgain_157 rfl hl (Nat.le_of_ble_eq_true rfl) [0, 2, 3] rfl ⟨va_rf_cat _, ⟨trivial, ⟨trivial, trivial⟩⟩⟩ k) (fun ls hl => ?_)
          refine rk_ofs (fun _ _ _ _ _ k => lr_iinc (v := x3 + 1) hx hb dX3_needsAgain_158 hl (k := 3) rfl rfl (Nat.le_of_ble_eq_true rfl) [0, 1, 2] rfl ⟨trivial, ⟨trivial, ⟨rfl, trivial⟩⟩⟩ k) (fun ls hl => ?_)
          refine rk_of (fun _ _ _ _ _ k => lv_goto (tgt := 11) hx hb dX3_needsAgain_161 (by decide) k) ?_
          exact ih v154 (x2 ||| (1 <<< (b96 &&& 31))) (x3 + 1) J ls (lv_sub hl [2, 1, 3, 0] rfl) hJ
        · exact rf_X3_needsAgain_106 H C hX p0 x1 (x2 ||| (1 <<< (b96 &&& 31))) x3 b96 zm_N 0 _ ls (lv_sub hl [2, 3, 1, 4, 5, 0] rfl) hJ135
      · exact rf_X3_needsAgain_27 H C hX p0 x1 x2 x3 zm_N (-1) 0 _ ls (lv_sub hl [2, 3, 4, 5, 1, 0] rfl) hJ96
theorem ct_X3_needsAgain {l : Launch} {Ω : zm_W} {K : zm_K} (H : zm_H Ω K) (a0 : zm_R) : zm_Ct l Ω yX3_needsAgain (ws_ yX3_needsAgain cX3_needsAgain 7 (Option.some Jvm.ClassFile.FieldType.int)) 3 107 [va_rf a0] zm_tvI (fn_X3_needsAgain K a0) := by
  refine zm_ct H.1 (by decide +kernel) (zl_le (zl_R zl_nil) (Nat.le_of_ble_eq_true rfl)) ?_
  intro p e R s m args below meth c n0 k0 C hX ls hl
  have hx := C.1
  have hb := C.2.1
  simp only [zg_R, zg_nil] at hl
  have hl : lv_has ls 7 [(0, va_rf a0)] := hl
  refine rk_rf ?_
  unfold fn_X3_needsAgain
  refine rk_of (fun _ _ _ _ _ k => lr_aload_n hx hb dX3_needsAgain_0 rfl (lv_at hl 0 rfl) (lv_iconst (v := 0) hx hb dX3_needsAgain_1 rfl k)) ?_
  refine rk_put C H.2.2.1 (hc_X3 H) (k := 5) (Nat.le_of_ble_eq_true rfl) in_X3 (ty0 := tyX3) tyX3_ok nmX3 q2582 (fun _ h => h) (Or.inl rfl) rfl rfl dX3_needsAgain_2 ?_
  refine rk_ofs (fun _ _ _ _ _ k => lv_iconst (v := 0) hx hb dX3_needsAgain_5 rfl (lr_istore_n hx hb dX3_needsAgain_6 rfl hl (Nat.le_of_ble_eq_true rfl) [0] rfl ⟨va_rf_cat _, trivial⟩ k)) (fun ls hl => ?_)
  refine rk_ofs (fun _ _ _ _ _ k => lv_iconst (v := 0) hx hb dX3_needsAgain_7 rfl (lr_istore_n hx hb dX3_needsAgain_8 rfl hl (Nat.le_of_ble_eq_true rfl) [0, 1] rfl ⟨rfl, ⟨trivial, trivial⟩⟩ k)) (fun ls hl => ?_)
  refine rk_ofs (fun _ _ _ _ _ k => lv_iconst (v := 0) hx hb dX3_needsAgain_9 rfl (lr_istore_n hx hb dX3_needsAgain_10 rfl hl (Nat.le_of_ble_eq_true rfl) [0, 1, 2] rfl ⟨rfl, ⟨trivial, ⟨trivial, trivial⟩⟩⟩ k)) (fun ls hl => ?_)
  refine rk_join (β := Int32) (fun (b164 : Int32) ls => lv_has ls 7 [(1, .int b164)]) (fun (b164 : Int32) ls => F0 m 164 ls []) (fun b164 ls hl => ?_) (fun hJ164 => ?_)
  · refine rk_of (fun _ _ _ _ _ k => lv_iload_n hx hb dX3_needsAgain_164 rfl (lv_at hl 0 rfl) k) ?_
    exact rk_top (rf_iret C rfl dX3_needsAgain_165)
  · exact rf_X3_needsAgain_11 H C hX a0 zm_N 0 0 0 _ ls (lv_sub hl [3, 2, 1, 0] rfl) hJ164
theorem hd_X3_over : yX3_over.cls ≠ "java/lang/invoke/MethodHandle" ∧ yX3_over.cls ≠ "java/lang/invoke/VarHandle" ∧ (parseMethodDescriptor yX3_over.desc).map (fun d => d.parameters.length) = some 1 := by decide +kernel
noncomputable def fn_X3_over (K : zm_K) (a0 : zm_R) (a1 : Int32) : zm_M Int32 :=
  zm_bnd (fn_X3_isMinute K a1) fun v2 =>
  zm_bnd (α := Int32) (
      if v2 = 0 then
        zm_ret 1
      else
        zm_ret 0
    ) fun b13 =>
  zm_bnd (zm_bnd (zm_is a0 20) fun _ => fn_X3_isThrown K a0 b13 1) fun v14 =>
  if v14 = 0 then
    zm_bnd (zm_bnd (zm_is a0 20) fun _ => fn_X3_wishesOver K a0 a1) fun v26 =>
    zm_ret v26
  else
    zm_ret 0
theorem ct_X3_over {l : Launch} {Ω : zm_W} {K : zm_K} (H : zm_H Ω K) (a0 : zm_R) (a1 : Int32) : zm_Ct l Ω yX3_over (ws_ yX3_over cX3_over 2 (Option.some Jvm.ClassFile.FieldType.int)) 4 130 [va_rf a0, .int a1] zm_tvI (fn_X3_over K a0 a1) := by
  refine zm_ct H.1 (by decide +kernel) (zl_le (zl_R (zl_I zl_nil)) (Nat.le_of_ble_eq_true rfl)) ?_
  intro p e R s m args below meth c n0 k0 C hX ls hl
  have hx := C.1
  have hb := C.2.1
  simp only [zg_I, zg_R, zg_nil] at hl
  have hl : lv_has ls 2 [(0, va_rf a0), (1, .int a1)] := hl
  refine rk_rf ?_
  unfold fn_X3_over
  refine rk_of (fun _ _ _ _ _ k => lr_aload_n hx hb dX3_over_0 rfl (lv_at hl 0 rfl) (lv_iload_n hx hb dX3_over_1 rfl (lv_at hl 1 rfl) k)) ?_
  refine rk_callI hX (cl_S (rest := [va_rf a0]) C (ct_X3_isMinute H a1) (lw_S q2692 q2693 q112 q2694) hd_X3_isMinute ⟨(Nat.le_of_ble_eq_true rfl), (Nat.le_of_ble_eq_true rfl)⟩ rfl hl.1 rfl (zw_le (zw_R zw_nil) (Nat.le_of_ble_eq_true rfl)) dX3_over_2) (fun v2 => ?_)
  refine rk_join (β := Int32) (fun (b13 : Int32) ls => lv_has ls 2 [(0, va_rf a0), (1, .int a1)]) (fun (b13 : Int32) ls => F0 m 13 ls [.int b13, va_rf a0]) (fun b13 ls hl => ?_) (fun hJ13 => ?_)
  · refine rk_of (fun _ _ _ _ _ k => lv_iconst (v := 1) hx hb dX3_over_13 rfl k) ?_
    refine rk_callI hX (cl_V (rest := []) (av := [.int b13, .int 1]) C (hc_X3 H) (ct_X3_isThrown H a0 b13 1) (lw_V q2665 q2667 qs46 q112 q2668) ⟨rfl, hd_X3_isThrown⟩ ⟨(Nat.le_of_ble_eq_true rfl), (Nat.le_of_ble_eq_true rfl)⟩ rfl hl.1 rfl (zw_le zw_nil (Nat.le_of_ble_eq_true rfl)) dX3_over_14) (fun v14 => ?_)
    refine rk_ite (fun _ _ _ _ _ k1 k2 => lv_if_eq (tgt := 24) hx hb dX3_over_17 (by decide) k1 k2) (fun c_17 => ?_) (fun c_17 => ?_)
    · refine rk_of (fun _ _ _ _ _ k => lr_aload_n hx hb dX3_over_24 rfl (lv_at hl 0 rfl) (lv_iload_n hx hb dX3_over_25 rfl (lv_at hl 1 rfl) k)) ?_
      refine rk_callI hX (cl_V (rest := []) (av := [.int a1]) C (hc_X3 H) (ct_X3_wishesOver H a0 a1) (lw_V q2822 q2824 qs69 q112 q2825) ⟨rfl, hd_X3_wishesOver⟩ ⟨(Nat.le_of_ble_eq_true rfl), (Nat.le_of_ble_eq_true rfl)⟩ rfl hl.1 rfl (zw_le zw_nil (Nat.le_of_ble_eq_true rfl)) dX3_over_26) (fun v26 => ?_)
      exact rk_top (rf_iret C rfl dX3_over_29)
    · refine rk_of (fun _ _ _ _ _ k => lv_iconst (v := 0) hx hb dX3_over_20 rfl (lv_goto (tgt := 29) hx hb dX3_over_21 (by decide) k)) ?_
      exact rk_top (rf_iret C rfl dX3_over_29)
  · refine rk_ite (fun _ _ _ _ _ k1 k2 => lv_if_ne (tgt := 12) hx hb dX3_over_5 (by decide) k2 k1) (fun c_5 => ?_) (fun c_5 => ?_)
    · refine rk_of (fun _ _ _ _ _ k => lv_iconst (v := 1) hx hb dX3_over_8 rfl (lv_goto (tgt := 13) hx hb dX3_over_9 (by decide) k)) ?_
      exact hJ13 1 ls (lv_sub hl [0, 1] rfl)
    · refine rk_of (fun _ _ _ _ _ k => lv_iconst (v := 0) hx hb dX3_over_12 rfl k) ?_
      exact hJ13 0 ls (lv_sub hl [0, 1] rfl)
theorem hd_X3_overAgain : yX3_overAgain.cls ≠ "java/lang/invoke/MethodHandle" ∧ yX3_overAgain.cls ≠ "java/lang/invoke/VarHandle" ∧ (parseMethodDescriptor yX3_overAgain.desc).map (fun d => d.parameters.length) = some 1 := by decide +kernel
noncomputable def fn_X3_overAgain_26 (K : zm_K) (p0 : zm_R) (p1 : Int32) : Nat → Int32 → Int32 → zm_M (Int32)
  | 0, _, _ => zm_fl
  | n + 1, x2, x3 =>
    zm_bnd (zm_getR p0 20 0) fun v28 =>
    zm_bnd (zm_aldI .int v28 2) fun v32 =>
    if v32 ≤ x3 then
      zm_ret x2
    else
      zm_bnd (zm_bnd (zm_is p0 20) fun _ => fn_X3_ofWish K p0 x3 0) fun v40 =>
      zm_bnd (α := Int32) (
          if p1 < v40 then
            zm_ret 0
          else
            zm_ret 1
        ) fun b52 =>
      zm_bnd (zm_bnd (zm_is p0 20) fun _ => fn_X3_ofWish K p0 x3 1) fun v58 =>
      zm_bnd (α := Int32) (
          if p1 < v58 then
            zm_ret 0
          else
            zm_ret 1
        ) fun b70 =>
      fn_X3_overAgain_26 K p0 p1 n ((x2 + b52) - b70) (x3 + 1)
noncomputable def fn_X3_overAgain (K : zm_K) (a0 : zm_R) (a1 : Int32) : zm_M Int32 :=
  zm_bnd (fn_X3_isMinute K a1) fun v2 =>
  zm_bnd (α := Int32) (
      if v2 = 0 then
        zm_ret 1
      else
        zm_ret 0
    ) fun b13 =>
  zm_bnd (zm_bnd (zm_is a0 20) fun _ => fn_X3_isThrown K a0 b13 1) fun v14 =>
  if v14 = 0 then
    zm_bnd (α := Int32) (fn_X3_overAgain_26 K a0 a1 zm_N 0 0) fun b78 =>
    zm_ret b78
  else
    zm_ret 0
theorem rf_X3_overAgain_26 (H : zm_H Ω K) (C : zm_C p l R s m args meth c Ω lw_all cX3_overAgain yX3_overAgain.cls yX3_overAgain.name 4 3 107 (Option.some Jvm.ClassFile.FieldType.int)) (hX : zm_XO p l e R s m args below meth c Ω n0 k0 (zm_QFs below args s Ω n0 k0 zm_tvI)) (p0 : zm_R) (p1 : Int32) : ∀ (n : Nat) (x2 : Int32) (x3 : Int32) (J : (Int32) → zm_M Int32) (ls : Array Slot), lv_has ls 4 [(0, va_rf p0), (1, .int p1), (2, .int x2), (3, .int x3)] → (∀ (b : Int32) (ls : Array Slot), lv_has ls 4 [(2, .int b)] → zm_RK p l e R s m args below meth c Ω n0 k0 (zm_QFs below args s Ω n0 k0 zm_tvI) (zm_ret b) J (F0 m 78 ls [])) → zm_RK p l e R s m args below meth c Ω n0 k0 (zm_QFs below args s Ω n0 k0 zm_tvI) (fn_X3_overAgain_26 K p0 p1 n x2 x3) J (F0 m 26 ls []) := by
  have hx := C.1
  have hb := C.2.1
  intro n
  induction n with
  | zero => intro x2 x3 J ls hl hJ; exact rk_fl
  | succ n ih =>
    intro x2 x3 J ls hl hJ
    unfold fn_X3_overAgain_26
    refine rk_of (fun _ _ _ _ _ k => lv_iload_n hx hb dX3_overAgain_26 rfl (lv_at hl 3 rfl) (lr_aload_n hx hb dX3_overAgain_27 rfl (lv_at hl 0 rfl) k)) ?_
    refine rk_get zm_rdR_eq C (hc_X3 H) (k := 0) (Nat.le_of_ble_eq_true rfl) in_X3 q2577 (fun _ h => h) dX3_overAgain_28 (fun v28 => ?_)
    refine rk_of (fun _ _ _ _ _ k => lv_iconst (v := 2) hx hb dX3_overAgain_31 rfl k) ?_
    refine rk_iald C dX3_overAgain_32 (fun v32 => ?_)
    refine rk_ite (fun _ _ _ _ _ k1 k2 => lv_icmp_ge (tgt := 78) hx hb dX3_overAgain_33 (by decide) k1 k2) (fun c_33 => ?_) (fun c_33 => ?_)
    · exact hJ x2 ls (lv_sub hl [2] rfl)
    · refine rk_of (fun _ _ _ _ _ k => lv_iload_n hx hb dX3_overAgain_36 rfl (lv_at hl 2 rfl) (lr_aload_n hx hb dX3_overAgain_37 rfl (lv_at hl 0 rfl) (lv_iload_n hx hb dX3_overAgain_38 rfl (lv_at hl 3 rfl) (lv_iconst (v := 0) hx hb dX3_overAgain_39 rfl k)))) ?_
      refine rk_callI hX (cl_V (rest := [.int x2]) (av := [.int x3, .int 0]) C (hc_X3 H) (ct_X3_ofWish H p0 x3 0) (lw_V q2814 q2816 qs68 q112 q2817) ⟨rfl, hd_X3_ofWish⟩ ⟨(Nat.le_of_ble_eq_true rfl), (Nat.le_of_ble_eq_true rfl)⟩ rfl hl.1 rfl (zw_le (zw_I zw_nil) (Nat.le_of_ble_eq_true rfl)) dX3_overAgain_40) (fun v40 => ?_)
      refine rk_of (fun _ _ _ _ _ k => lv_iload_n hx hb dX3_overAgain_43 rfl (lv_at hl 1 rfl) k) ?_
      refine rk_join (β := Int32) (fun (b52 : Int32) ls => lv_has ls 4 [(0, va_rf p0), (1, .int p1), (3, .int x3)]) (fun (b52 : Int32) ls => F0 m 52 ls [.int b52, .int x2]) (fun b52 ls hl => ?_) (fun hJ52 => ?_)
      · refine rk_ofs (fun _ _ _ _ _ k => lv_iadd hx hb dX3_overAgain_52 (lr_istore_n hx hb dX3_overAgain_53 rfl hl (Nat.le_of_ble_eq_true rfl) [0, 1, 2] rfl ⟨trivial, ⟨rfl, ⟨trivial, trivial⟩⟩⟩ k)) (fun ls hl => ?_)
        refine rk_of (fun _ _ _ _ _ k => lv_iload_n hx hb dX3_overAgain_54 rfl (lv_at hl 0 rfl) (lr_aload_n hx hb dX3_overAgain_55 rfl (lv_at hl 1 rfl) (lv_iload_n hx hb dX3_overAgain_56 rfl (lv_at hl 3 rfl) (lv_iconst (v := 1) hx hb dX3_overAgain_57 rfl k)))) ?_
        refine rk_callI hX (cl_V (rest := [.int (x2 + b52)]) (av := [.int x3, .int 1]) C (hc_X3 H) (ct_X3_ofWish H p0 x3 1) (lw_V q2814 q2816 qs68 q112 q2817) ⟨rfl, hd_X3_ofWish⟩ ⟨(Nat.le_of_ble_eq_true rfl), (Nat.le_of_ble_eq_true rfl)⟩ rfl hl.1 rfl (zw_le (zw_I zw_nil) (Nat.le_of_ble_eq_true rfl)) dX3_overAgain_58) (fun v58 => ?_)
        refine rk_of (fun _ _ _ _ _ k => lv_iload_n hx hb dX3_overAgain_61 rfl (lv_at hl 2 rfl) k) ?_
        refine rk_join (β := Int32) (fun (b70 : Int32) ls => lv_has ls 4 [(0, va_rf p0), (1, .int p1), (3, .int x3)]) (fun (b70 : Int32) ls => F0 m 70 ls [.int b70, .int (x2 + b52)]) (fun b70 ls hl => ?_) (fun hJ70 => ?_)
        · refine rk_ofs (fun _ _ _ _ _ k => lv_isub hx hb dX3_overAgain_70 (lr_istore_n hx hb dX3_overAgain_71 rfl hl (Nat.le_of_ble_eq_true rfl) [0, 1, 2] rfl ⟨trivial, ⟨rfl, ⟨trivial, trivial⟩⟩⟩ k)) (fun ls hl => ?_)
          refine rk_ofs (fun _ _ _ _ _ k => lr_iinc (v := x3 + 1) hx hb dX3_overAgain_72 hl (k := 3) rfl rfl (Nat.le_of_ble_eq_true rfl) [0, 1, 2] rfl ⟨rfl, ⟨trivial, ⟨trivial, trivial⟩⟩⟩ k) (fun ls hl => ?_)
          refine rk_of (fun _ _ _ _ _ k => lv_goto (tgt := 26) hx hb dX3_overAgain_75 (by decide) k) ?_
          exact ih ((x2 + b52) - b70) (x3 + 1) J ls (lv_sub hl [2, 3, 1, 0] rfl) hJ
        · refine rk_ite (fun _ _ _ _ _ k1 k2 => lv_icmp_gt (tgt := 69) hx hb dX3_overAgain_62 (by decide) k1 k2) (fun c_62 => ?_) (fun c_62 => ?_)
          · refine rk_of (fun _ _ _ _ _ k => lv_iconst (v := 0) hx hb dX3_overAgain_69 rfl k) ?_
            exact hJ70 0 ls (lv_sub hl [1, 2, 3] rfl)
          · refine rk_of (fun _ _ _ _ _ k => lv_iconst (v := 1) hx hb dX3_overAgain_65 rfl (lv_goto (tgt := 70) hx hb dX3_overAgain_66 (by decide) k)) ?_
            exact hJ70 1 ls (lv_sub hl [1, 2, 3] rfl)
      · refine rk_ite (fun _ _ _ _ _ k1 k2 => lv_icmp_gt (tgt := 51) hx hb dX3_overAgain_44 (by decide) k1 k2) (fun c_44 => ?_) (fun c_44 => ?_)
        · refine rk_of (fun _ _ _ _ _ k => lv_iconst (v := 0) hx hb dX3_overAgain_51 rfl k) ?_
          exact hJ52 0 ls (lv_sub hl [0, 1, 3] rfl)
        · refine rk_of (fun _ _ _ _ _ k => lv_iconst (v := 1) hx hb dX3_overAgain_47 rfl (lv_goto (tgt := 52) hx hb dX3_overAgain_48 (by decide) k)) ?_
          exact hJ52 1 ls (lv_sub hl [0, 1, 3] rfl)
theorem ct_X3_overAgain {l : Launch} {Ω : zm_W} {K : zm_K} (H : zm_H Ω K) (a0 : zm_R) (a1 : Int32) : zm_Ct l Ω yX3_overAgain (ws_ yX3_overAgain cX3_overAgain 4 (Option.some Jvm.ClassFile.FieldType.int)) 3 107 [va_rf a0, .int a1] zm_tvI (fn_X3_overAgain K a0 a1) := by
  refine zm_ct H.1 (by decide +kernel) (zl_le (zl_R (zl_I zl_nil)) (Nat.le_of_ble_eq_true rfl)) ?_
  intro p e R s m args below meth c n0 k0 C hX ls hl
  have hx := C.1
  have hb := C.2.1
  simp only [zg_I, zg_R, zg_nil] at hl
  have hl : lv_has ls 4 [(0, va_rf a0), (1, .int a1)] := hl
  refine rk_rf ?_
  unfold fn_X3_overAgain
  refine rk_of (fun _ _ _ _ _ k => lr_aload_n hx hb dX3_overAgain_0 rfl (lv_at hl 0 rfl) (lv_iload_n hx hb dX3_overAgain_1 rfl (lv_at hl 1 rfl) k)) ?_
  refine rk_callI hX (cl_S (rest := [va_rf a0]) C (ct_X3_isMinute H a1) (lw_S q2692 q2693 q112 q2694) hd_X3_isMinute ⟨(Nat.le_of_ble_eq_true rfl), (Nat.le_of_ble_eq_true rfl)⟩ rfl hl.1 rfl (zw_le (zw_R zw_nil) (Nat.le_of_ble_eq_true rfl)) dX3_overAgain_2) (fun v2 => ?_)
  refine rk_join (β := Int32) (fun (b13 : Int32) ls => lv_has ls 4 [(0, va_rf a0), (1, .int a1)]) (fun (b13 : Int32) ls => F0 m 13 ls [.int b13, va_rf a0]) (fun b13 ls hl => ?_) (fun hJ13 => ?_)
  · refine rk_of (fun _ _ _ _ _ k => lv_iconst (v := 1) hx hb dX3_overAgain_13 rfl k) ?_
    refine rk_callI hX (cl_V (rest := []) (av := [.int b13, .int 1]) C (hc_X3 H) (ct_X3_isThrown H a0 b13 1) (lw_V q2665 q2667 qs46 q112 q2668) ⟨rfl, hd_X3_isThrown⟩ ⟨(Nat.le_of_ble_eq_true rfl), (Nat.le_of_ble_eq_true rfl)⟩ rfl hl.1 rfl (zw_le zw_nil (Nat.le_of_ble_eq_true rfl)) dX3_overAgain_14) (fun v14 => ?_)
    refine rk_ite (fun _ _ _ _ _ k1 k2 => lv_if_eq (tgt := 22) hx hb dX3_overAgain_17 (by decide) k1 k2) (fun c_17 => ?_) (fun c_17 => ?_)
    · refine rk_ofs (fun _ _ _ _ _ k => lv_iconst (v := 0) hx hb dX3_overAgain_22 rfl (lr_istore_n hx hb dX3_overAgain_23 rfl hl (Nat.le_of_ble_eq_true rfl) [0, 1] rfl ⟨trivial, ⟨rfl, trivial⟩⟩ k)) (fun ls hl => ?_)
      refine rk_ofs (fun _ _ _ _ _ k => lv_iconst (v := 0) hx hb dX3_overAgain_24 rfl (lr_istore_n hx hb dX3_overAgain_25 rfl hl (Nat.le_of_ble_eq_true rfl) [0, 1, 2] rfl ⟨rfl, ⟨trivial, ⟨trivial, trivial⟩⟩⟩ k)) (fun ls hl => ?_)
      refine rk_join (β := Int32) (fun (b78 : Int32) ls => lv_has ls 4 [(2, .int b78)]) (fun (b78 : Int32) ls => F0 m 78 ls []) (fun b78 ls hl => ?_) (fun hJ78 => ?_)
      · refine rk_of (fun _ _ _ _ _ k => lv_iload_n hx hb dX3_overAgain_78 rfl (lv_at hl 0 rfl) k) ?_
        exact rk_top (rf_iret C rfl dX3_overAgain_79)
      · exact rf_X3_overAgain_26 H C hX a0 a1 zm_N 0 0 _ ls (lv_sub hl [2, 3, 1, 0] rfl) hJ78
    · refine rk_of (fun _ _ _ _ _ k => lv_iconst (v := 0) hx hb dX3_overAgain_20 rfl k) ?_
      exact rk_top (rf_iret C rfl dX3_overAgain_21)
  · refine rk_ite (fun _ _ _ _ _ k1 k2 => lv_if_ne (tgt := 12) hx hb dX3_overAgain_5 (by decide) k2 k1) (fun c_5 => ?_) (fun c_5 => ?_)
    · refine rk_of (fun _ _ _ _ _ k => lv_iconst (v := 1) hx hb dX3_overAgain_8 rfl (lv_goto (tgt := 13) hx hb dX3_overAgain_9 (by decide) k)) ?_
      exact hJ13 1 ls (lv_sub hl [0, 1] rfl)
    · refine rk_of (fun _ _ _ _ _ k => lv_iconst (v := 0) hx hb dX3_overAgain_12 rfl k) ?_
      exact hJ13 0 ls (lv_sub hl [0, 1] rfl)
theorem hd_X3_ranked : yX3_ranked.cls ≠ "java/lang/invoke/MethodHandle" ∧ yX3_ranked.cls ≠ "java/lang/invoke/VarHandle" ∧ (parseMethodDescriptor yX3_ranked.desc).map (fun d => d.parameters.length) = some 1 := by decide +kernel
noncomputable def fn_X3_ranked_17 (K : zm_K) (p0 : zm_R) (p1 : Int32) (p2 : Int32) : Nat → Int32 → Int32 → zm_M (Int32)
  | 0, _, _ => zm_fl
  | n + 1, x3, x4 =>
    zm_bnd (zm_getR p0 20 0) fun v20 =>
    zm_bnd (zm_aldI .int v20 0) fun v24 =>
    if v24 ≤ x4 then
      zm_ret x3
    else
      zm_bnd (α := Int32) (
          if x4 = p2 then
            zm_ret 0
          else
            zm_bnd (zm_bnd (zm_is p0 20) fun _ => fn_X3_isBoxAhead K p0 x4 p2) fun v39 =>
            if v39 = 0 then
              zm_ret 0
            else
              zm_ret 1
        ) fun b50 =>
      fn_X3_ranked_17 K p0 p1 p2 n (x3 + b50) (x4 + 1)
noncomputable def fn_X3_ranked_2 (K : zm_K) (p0 : zm_R) (p1 : Int32) : Nat → Int32 → zm_M ((Unit) ⊕ (Int32))
  | 0, _ => zm_fl
  | n + 1, x2 =>
    zm_bnd (zm_getR p0 20 0) fun v4 =>
    zm_bnd (zm_aldI .int v4 0) fun v8 =>
    if v8 ≤ x2 then
      zm_ret (Sum.inl ())
    else
      zm_bnd (α := Int32) (fn_X3_ranked_17 K p0 p1 x2 zm_N 0 0) fun b58 =>
      if b58 = p1 then
        zm_bnd (zm_putF K p0 20 5 (.int 0)) fun _ =>
        zm_ret (Sum.inr x2)
      else
        fn_X3_ranked_2 K p0 p1 n (x2 + 1)
noncomputable def fn_X3_ranked (K : zm_K) (a0 : zm_R) (a1 : Int32) : zm_M Int32 :=
  zm_bnx (β := Unit) (fn_X3_ranked_2 K a0 a1 zm_N 0) fun (_ : Unit) =>
  zm_bnd (zm_putF K a0 20 5 (.int 1)) fun _ =>
  zm_ret 0
theorem rf_X3_ranked_17 (H : zm_H Ω K) (C : zm_C p l R s m args meth c Ω lw_all cX3_ranked yX3_ranked.cls yX3_ranked.name 5 7 198 (Option.some Jvm.ClassFile.FieldType.int)) (hX : zm_XO p l e R s m args below meth c Ω n0 k0 (zm_QFs below args s Ω n0 k0 zm_tvI)) (p0 : zm_R) (p1 : Int32) (p2 : Int32) : ∀ (n : Nat) (x3 : Int32) (x4 : Int32) (J : (Int32) → zm_M Int32) (ls : Array Slot), lv_has ls 5 [(0, va_rf p0), (1, .int p1), (2, .int p2), (3, .int x3), (4, .int x4)] → (∀ (b : Int32) (ls : Array Slot), lv_has ls 5 [(0, va_rf p0), (1, .int p1), (2, .int p2), (3, .int b)] → zm_RK p l e R s m args below meth c Ω n0 k0 (zm_QFs below args s Ω n0 k0 zm_tvI) (zm_ret b) J (F0 m 58 ls [])) → zm_RK p l e R s m args below meth c Ω n0 k0 (zm_QFs below args s Ω n0 k0 zm_tvI) (fn_X3_ranked_17 K p0 p1 p2 n x3 x4) J (F0 m 17 ls []) := by
  have hx := C.1
  have hb := C.2.1
  intro n
  induction n with
  | zero => intro x3 x4 J ls hl hJ; exact rk_fl
  | succ n ih =>
    intro x3 x4 J ls hl hJ
    unfold fn_X3_ranked_17
    refine rk_of (fun _ _ _ _ _ k => lv_iload hx hb dX3_ranked_17 (lv_at hl 4 rfl) (lr_aload_n hx hb dX3_ranked_19 rfl (lv_at hl 0 rfl) k)) ?_
    refine rk_get zm_rdR_eq C (hc_X3 H) (k := 0) (Nat.le_of_ble_eq_true rfl) in_X3 q2577 (fun _ h => h) dX3_ranked_20 (fun v20 => ?_)
    refine rk_of (fun _ _ _ _ _ k => lv_iconst (v := 0) hx hb dX3_ranked_23 rfl k) ?_
    refine rk_iald C dX3_ranked_24 (fun v24 => ?_)
    refine rk_ite (fun _ _ _ _ _ k1 k2 => lv_icmp_ge (tgt := 58) hx hb dX3_ranked_25 (by decide) k1 k2) (fun c_25 => ?_) (fun c_25 => ?_)
    · exact hJ x3 ls (lv_sub hl [0, 1, 2, 3] rfl)
    · refine rk_of (fun _ _ _ _ _ k => lv_iload_n hx hb dX3_ranked_28 rfl (lv_at hl 3 rfl) (lv_iload hx hb dX3_ranked_29 (lv_at hl 4 rfl) (lv_iload_n hx hb dX3_ranked_31 rfl (lv_at hl 2 rfl) k))) ?_
      refine rk_join (β := Int32) (fun (b50 : Int32) ls => lv_has ls 5 [(0, va_rf p0), (1, .int p1), (2, .int p2), (4, .int x4)]) (fun (b50 : Int32) ls => F0 m 50 ls [.int b50, .int x3]) (fun b50 ls hl => ?_) (fun hJ50 => ?_)
      · refine rk_ofs (fun _ _ _ _ _ k => lv_iadd hx hb dX3_ranked_50 (lr_istore_n hx hb dX3_ranked_51 rfl hl (Nat.le_of_ble_eq_true rfl) [0, 1, 2, 3] rfl ⟨trivial, ⟨trivial, ⟨rfl, ⟨trivial, trivial⟩⟩⟩⟩ k)) (fun ls hl => ?_)
        refine rk_ofs (fun _ _ _ _ _ k => lr_iinc (v := x4 + 1) hx hb dX3_ranked_52 hl (k := 4) rfl rfl (Nat.le_of_ble_eq_true rfl) [0, 1, 2, 3] rfl ⟨rfl, ⟨trivial, ⟨trivial, ⟨trivial, trivial⟩⟩⟩⟩ k) (fun ls hl => ?_)
        refine rk_of (fun _ _ _ _ _ k => lv_goto (tgt := 17) hx hb dX3_ranked_55 (by decide) k) ?_
        exact ih (x3 + b50) (x4 + 1) J ls (lv_sub hl [2, 3, 4, 1, 0] rfl) hJ
      · refine rk_ite (fun _ _ _ _ _ k1 k2 => lv_icmp_eq (tgt := 49) hx hb dX3_ranked_32 (by decide) k1 k2) (fun c_32 => ?_) (fun c_32 => ?_)
        · refine rk_of (fun _ _ _ _ _ k => lv_iconst (v := 0) hx hb dX3_ranked_49 rfl k) ?_
          exact hJ50 0 ls (lv_sub hl [0, 1, 2, 4] rfl)
        · refine rk_of (fun _ _ _ _ _ k => lr_aload_n hx hb dX3_ranked_35 rfl (lv_at hl 0 rfl) (lv_iload hx hb dX3_ranked_36 (lv_at hl 4 rfl) (lv_iload_n hx hb dX3_ranked_38 rfl (lv_at hl 2 rfl) k))) ?_
          refine rk_callI hX (cl_V (rest := [.int x3]) (av := [.int x4, .int p2]) C (hc_X3 H) (ct_X3_isBoxAhead H p0 x4 p2) (lw_V q2925 q2927 qs82 q112 q2928) ⟨rfl, hd_X3_isBoxAhead⟩ ⟨(Nat.le_of_ble_eq_true rfl), (Nat.le_of_ble_eq_true rfl)⟩ rfl hl.1 rfl (zw_le (zw_I zw_nil) (Nat.le_of_ble_eq_true rfl)) dX3_ranked_39) (fun v39 => ?_)
          refine rk_ite (fun _ _ _ _ _ k1 k2 => lv_if_eq (tgt := 49) hx hb dX3_ranked_42 (by decide) k1 k2) (fun c_42 => ?_) (fun c_42 => ?_)
          · refine rk_of (fun _ _ _ _ _ k => lv_iconst (v := 0) hx hb dX3_ranked_49 rfl k) ?_
            exact hJ50 0 ls (lv_sub hl [0, 1, 2, 4] rfl)
          · refine rk_of (fun _ _ _ _ _ k => lv_iconst (v := 1) hx hb dX3_ranked_45 rfl (lv_goto (tgt := 50) hx hb dX3_ranked_46 (by decide) k)) ?_
            exact hJ50 1 ls (lv_sub hl [0, 1, 2, 4] rfl)
theorem rf_X3_ranked_2 (H : zm_H Ω K) (C : zm_C p l R s m args meth c Ω lw_all cX3_ranked yX3_ranked.cls yX3_ranked.name 5 7 198 (Option.some Jvm.ClassFile.FieldType.int)) (hX : zm_XO p l e R s m args below meth c Ω n0 k0 (zm_QFs below args s Ω n0 k0 zm_tvI)) (p0 : zm_R) (p1 : Int32) : ∀ (n : Nat) (x2 : Int32) (J : ((Unit) ⊕ (Int32)) → zm_M Int32) (ls : Array Slot), lv_has ls 5 [(0, va_rf p0), (1, .int p1), (2, .int x2)] → (∀ (b : Unit) (ls : Array Slot), lv_has ls 5 [(0, va_rf p0)] → zm_RK p l e R s m args below meth c Ω n0 k0 (zm_QFs below args s Ω n0 k0 zm_tvI) (zm_ret (Sum.inl b)) J (F0 m 76 ls [])) → (∀ (v : Int32) (g : JFrame), zm_RF p l e R s m args below meth c Ω n0 k0 (zm_QFs below args s Ω n0 k0 zm_tvI) (zm_ret v) g → zm_RK p l e R s m args below meth c Ω n0 k0 (zm_QFs below args s Ω n0 k0 zm_tvI) (zm_ret (Sum.inr v)) J g) → zm_RK p l e R s m args below meth c Ω n0 k0 (zm_QFs below args s Ω n0 k0 zm_tvI) (fn_X3_ranked_2 K p0 p1 n x2) J (F0 m 2 ls []) := by
  have hx := C.1
  have hb := C.2.1
  intro n
  induction n with
  | zero => intro x2 J ls hl hJ hR; exact rk_fl
  | succ n ih =>
    intro x2 J ls hl hJ hR
    unfold fn_X3_ranked_2
    refine rk_of (fun _ _ _ _ _ k => lv_iload_n hx hb dX3_ranked_2 rfl (lv_at hl 2 rfl) (lr_aload_n hx hb dX3_ranked_3 rfl (lv_at hl 0 rfl) k)) ?_
    refine rk_get zm_rdR_eq C (hc_X3 H) (k := 0) (Nat.le_of_ble_eq_true rfl) in_X3 q2577 (fun _ h => h) dX3_ranked_4 (fun v4 => ?_)
    refine rk_of (fun _ _ _ _ _ k => lv_iconst (v := 0) hx hb dX3_ranked_7 rfl k) ?_
    refine rk_iald C dX3_ranked_8 (fun v8 => ?_)
    refine rk_ite (fun _ _ _ _ _ k1 k2 => lv_icmp_ge (tgt := 76) hx hb dX3_ranked_9 (by decide) k1 k2) (fun c_9 => ?_) (fun c_9 => ?_)
    · exact hJ () ls (lv_sub hl [0] rfl)
    · refine rk_ofs (fun _ _ _ _ _ k => lv_iconst (v := 0) hx hb dX3_ranked_12 rfl (lr_istore_n hx hb dX3_ranked_13 rfl hl (Nat.le_of_ble_eq_true rfl) [0, 1, 2] rfl ⟨trivial, ⟨trivial, ⟨rfl, trivial⟩⟩⟩ k)) (fun ls hl => ?_)
      refine rk_ofs (fun _ _ _ _ _ k => lv_iconst (v := 0) hx hb dX3_ranked_14 rfl (lr_istore hx hb dX3_ranked_15 hl (Nat.le_of_ble_eq_true rfl) [0, 1, 2, 3] rfl ⟨rfl, ⟨trivial, ⟨trivial, ⟨trivial, trivial⟩⟩⟩⟩ k)) (fun ls hl => ?_)
      refine rk_join (β := Int32) (fun (b58 : Int32) ls => lv_has ls 5 [(0, va_rf p0), (1, .int p1), (2, .int x2), (3, .int b58)]) (fun (b58 : Int32) ls => F0 m 58 ls []) (fun b58 ls hl => ?_) (fun hJ58 => ?_)
      · refine rk_ite (fun _ _ _ _ _ k1 k2 => lv_iload_n hx hb dX3_ranked_58 rfl (lv_at hl 3 rfl) (lv_iload_n hx hb dX3_ranked_59 rfl (lv_at hl 1 rfl) (lv_icmp_ne (tgt := 70) hx hb dX3_ranked_60 (by decide) k2 k1))) (fun c_60 => ?_) (fun c_60 => ?_)
        · refine rk_of (fun _ _ _ _ _ k => lr_aload_n hx hb dX3_ranked_63 rfl (lv_at hl 0 rfl) (lv_iconst (v := 0) hx hb dX3_ranked_64 rfl k)) ?_
          refine rk_put C H.2.2.1 (hc_X3 H) (k := 5) (Nat.le_of_ble_eq_true rfl) in_X3 (ty0 := tyX3) tyX3_ok nmX3 q2582 (fun _ h => h) (Or.inl rfl) rfl rfl dX3_ranked_65 ?_
          refine rk_of (fun _ _ _ _ _ k => lv_iload_n hx hb dX3_ranked_68 rfl (lv_at hl 2 rfl) k) ?_
          exact hR _ _ (rf_iret C rfl dX3_ranked_69)
        · refine rk_ofs (fun _ _ _ _ _ k => lr_iinc (v := x2 + 1) hx hb dX3_ranked_70 hl (k := 2) rfl rfl (Nat.le_of_ble_eq_true rfl) [0, 1] rfl ⟨trivial, ⟨rfl, trivial⟩⟩ k) (fun ls hl => ?_)
          refine rk_of (fun _ _ _ _ _ k => lv_goto (tgt := 2) hx hb dX3_ranked_73 (by decide) k) ?_
          exact ih (x2 + 1) J ls (lv_sub hl [1, 2, 0] rfl) hJ hR
      · exact rf_X3_ranked_17 H C hX p0 p1 x2 zm_N 0 0 _ ls (lv_sub hl [2, 3, 4, 1, 0] rfl) hJ58
theorem ct_X3_ranked {l : Launch} {Ω : zm_W} {K : zm_K} (H : zm_H Ω K) (a0 : zm_R) (a1 : Int32) : zm_Ct l Ω yX3_ranked (ws_ yX3_ranked cX3_ranked 5 (Option.some Jvm.ClassFile.FieldType.int)) 7 198 [va_rf a0, .int a1] zm_tvI (fn_X3_ranked K a0 a1) := by
  refine zm_ct H.1 (by decide +kernel) (zl_le (zl_R (zl_I zl_nil)) (Nat.le_of_ble_eq_true rfl)) ?_
  intro p e R s m args below meth c n0 k0 C hX ls hl
  have hx := C.1
  have hb := C.2.1
  simp only [zg_I, zg_R, zg_nil] at hl
  have hl : lv_has ls 5 [(0, va_rf a0), (1, .int a1)] := hl
  refine rk_rf ?_
  unfold fn_X3_ranked
  refine rk_ofs (fun _ _ _ _ _ k => lv_iconst (v := 0) hx hb dX3_ranked_0 rfl (lr_istore_n hx hb dX3_ranked_1 rfl hl (Nat.le_of_ble_eq_true rfl) [0, 1] rfl ⟨trivial, ⟨rfl, trivial⟩⟩ k)) (fun ls hl => ?_)
  refine rk_joinx (β := Unit) (fun (b76 : Unit) ls => lv_has ls 5 [(0, va_rf a0)]) (fun (b76 : Unit) ls => F0 m 76 ls []) (fun b76 ls hl => ?_) (fun hJ76 => ?_)
  · refine rk_of (fun _ _ _ _ _ k => lr_aload_n hx hb dX3_ranked_76 rfl (lv_at hl 0 rfl) (lv_iconst (v := 1) hx hb dX3_ranked_77 rfl k)) ?_
    refine rk_put C H.2.2.1 (hc_X3 H) (k := 5) (Nat.le_of_ble_eq_true rfl) in_X3 (ty0 := tyX3) tyX3_ok nmX3 q2582 (fun _ h => h) (Or.inl rfl) rfl rfl dX3_ranked_78 ?_
    refine rk_of (fun _ _ _ _ _ k => lv_iconst (v := 0) hx hb dX3_ranked_81 rfl k) ?_
    exact rk_top (rf_iret C rfl dX3_ranked_82)
  · exact rf_X3_ranked_2 H C hX a0 a1 zm_N 0 _ ls (lv_sub hl [1, 2, 0] rfl) hJ76 (fun v g k9 => by
        refine rk_inr ?_
        exact rk_top (k9))
theorem hd_X3_read : yX3_read.cls ≠ "java/lang/invoke/MethodHandle" ∧ yX3_read.cls ≠ "java/lang/invoke/VarHandle" ∧ (parseMethodDescriptor yX3_read.desc).map (fun d => d.parameters.length) = some 0 := by decide +kernel
noncomputable def fn_X3_read_43 (K : zm_K) (p0 : zm_R) : Nat → Int32 → zm_M ((Unit) ⊕ (Int32))
  | 0, _ => zm_fl
  | n + 1, x2 =>
    zm_bnd (zm_getI p0 20 21) fun v45 =>
    if v45 ≤ x2 then
      zm_ret (Sum.inl ())
    else
      zm_bnd (zm_bnd (zm_is p0 20) fun _ => fn_X3_isSound K p0 (5 * x2)) fun v58 =>
      zm_bnd (α := Int32) (
          if v58 = 0 then
            zm_ret 1
          else
            zm_ret 0
        ) fun b69 =>
      zm_bnd (zm_bnd (zm_is p0 20) fun _ => fn_X3_isThrown K p0 b69 1) fun v70 =>
      zm_bnd (α := Int32) (
          if v70 = 0 then
            zm_bnd (zm_bnd (zm_is p0 20) fun _ => fn_X3_does K p0 (5 * x2)) fun v82 =>
            zm_ret v82
          else
            zm_ret 0
        ) fun b85 =>
      zm_bnd (zm_getI p0 20 5) fun v88 =>
      if v88 = 0 then
        fn_X3_read_43 K p0 n (x2 + 1)
      else
        zm_bnd (zm_getI p0 20 5) fun v96 =>
        zm_bnd (α := Int32) (
            if v96 = 9 then
              zm_ret 1
            else
              zm_ret 0
          ) fun b109 =>
        zm_bnd (zm_bnd (zm_is p0 20) fun _ => fn_X3_isBehind K p0 b109 x2) fun _ =>
        zm_bnd (zm_getR p0 20 1) fun v114 =>
        zm_bnd (zm_getR p0 20 0) fun v119 =>
        zm_bnd (fn_X3_copies K v114 0 v119 0) fun _ =>
        zm_bnd (zm_putF K p0 20 5 (.int 2)) fun _ =>
        zm_bnd (zm_bnd (zm_is p0 20) fun _ => fn_X3_ends K p0 b85 2) fun v135 =>
        zm_ret (Sum.inr v135)
noncomputable def fn_X3_read (K : zm_K) (a0 : zm_R) : zm_M Int32 :=
  zm_bnd (zm_bnd (zm_is a0 20) fun _ => fn_X3_isText K a0) fun v1 =>
  zm_bnd (zm_putF K a0 20 19 (.int 0)) fun _ =>
  zm_bnd (α := Int32) (
      if v1 = 0 then
        zm_ret 1
      else
        zm_ret 0
    ) fun b20 =>
  zm_bnd (zm_bnd (zm_is a0 20) fun _ => fn_X3_isThrown K a0 b20 1) fun v21 =>
  if v21 = 0 then
    zm_bnd (zm_bnd (zm_is a0 20) fun _ => fn_X3_keeps K a0) fun _ =>
    zm_bnx (β := Unit) (fn_X3_read_43 K a0 zm_N 0) fun (_ : Unit) =>
    zm_bnd (zm_getI a0 20 21) fun v147 =>
    zm_bnd (zm_bnd (zm_is a0 20) fun _ => fn_X3_ends K a0 v147 2) fun v151 =>
    zm_ret v151
  else
    zm_bnd (zm_getI a0 20 20) fun v29 =>
    zm_bnd (zm_putF K a0 20 10 (.int v29)) fun _ =>
    zm_ret 0
theorem rf_X3_read_43 (H : zm_H Ω K) (C : zm_C p l R s m args meth c Ω lw_all cX3_read yX3_read.cls yX3_read.name 5 8 229 (Option.some Jvm.ClassFile.FieldType.int)) (hX : zm_XO p l e R s m args below meth c Ω n0 k0 (zm_QFs below args s Ω n0 k0 zm_tvI)) (p0 : zm_R) : ∀ (n : Nat) (x2 : Int32) (J : ((Unit) ⊕ (Int32)) → zm_M Int32) (ls : Array Slot), lv_has ls 5 [(0, va_rf p0), (2, .int x2)] → (∀ (b : Unit) (ls : Array Slot), lv_has ls 5 [(0, va_rf p0)] → zm_RK p l e R s m args below meth c Ω n0 k0 (zm_QFs below args s Ω n0 k0 zm_tvI) (zm_ret (Sum.inl b)) J (F0 m 145 ls [])) → (∀ (v : Int32) (g : JFrame), zm_RF p l e R s m args below meth c Ω n0 k0 (zm_QFs below args s Ω n0 k0 zm_tvI) (zm_ret v) g → zm_RK p l e R s m args below meth c Ω n0 k0 (zm_QFs below args s Ω n0 k0 zm_tvI) (zm_ret (Sum.inr v)) J g) → zm_RK p l e R s m args below meth c Ω n0 k0 (zm_QFs below args s Ω n0 k0 zm_tvI) (fn_X3_read_43 K p0 n x2) J (F0 m 43 ls []) := by
  have hx := C.1
  have hb := C.2.1
  intro n
  induction n with
  | zero => intro x2 J ls hl hJ hR; exact rk_fl
  | succ n ih =>
    intro x2 J ls hl hJ hR
    unfold fn_X3_read_43
    refine rk_of (fun _ _ _ _ _ k => lv_iload_n hx hb dX3_read_43 rfl (lv_at hl 1 rfl) (lr_aload_n hx hb dX3_read_44 rfl (lv_at hl 0 rfl) k)) ?_
    refine rk_get zm_rdI_eq C (hc_X3 H) (k := 21) (Nat.le_of_ble_eq_true rfl) in_X3 q2598 (fun _ h => h) dX3_read_45 (fun v45 => ?_)
    refine rk_ite (fun _ _ _ _ _ k1 k2 => lv_icmp_ge (tgt := 145) hx hb dX3_read_48 (by decide) k1 k2) (fun c_48 => ?_) (fun c_48 => ?_)
    · exact hJ () ls (lv_sub hl [0] rfl)
    · refine rk_ofs (fun _ _ _ _ _ k => lv_iconst (v := 5) hx hb dX3_read_51 rfl (lv_iload_n hx hb dX3_read_52 rfl (lv_at hl 1 rfl) (lv_imul hx hb dX3_read_53 (lr_istore_n hx hb dX3_read_54 rfl hl (Nat.le_of_ble_eq_true rfl) [0, 1] rfl ⟨trivial, ⟨rfl, trivial⟩⟩ k)))) (fun ls hl => ?_)
      refine rk_of (fun _ _ _ _ _ k => lr_aload_n hx hb dX3_read_55 rfl (lv_at hl 1 rfl) (lr_aload_n hx hb dX3_read_56 rfl (lv_at hl 1 rfl) (lv_iload_n hx hb dX3_read_57 rfl (lv_at hl 0 rfl) k))) ?_
      refine rk_callI hX (cl_V (rest := [va_rf p0]) (av := [.int (5 * x2)]) C (hc_X3 H) (ct_X3_isSound H p0 (5 * x2)) (lw_V q3034 q3036 qs97 q112 q3037) ⟨rfl, hd_X3_isSound⟩ ⟨(Nat.le_of_ble_eq_true rfl), (Nat.le_of_ble_eq_true rfl)⟩ rfl hl.1 rfl (zw_le (zw_R zw_nil) (Nat.le_of_ble_eq_true rfl)) dX3_read_58) (fun v58 => ?_)
      refine rk_join (β := Int32) (fun (b69 : Int32) ls => lv_has ls 5 [(0, va_rf p0), (2, .int x2), (3, .int (5 * x2))]) (fun (b69 : Int32) ls => F0 m 69 ls [.int b69, va_rf p0]) (fun b69 ls hl => ?_) (fun hJ69 => ?_)
      · refine rk_of (fun _ _ _ _ _ k => lv_iconst (v := 1) hx hb dX3_read_69 rfl k) ?_
        refine rk_callI hX (cl_V (rest := []) (av := [.int b69, .int 1]) C (hc_X3 H) (ct_X3_isThrown H p0 b69 1) (lw_V q2665 q2667 qs46 q112 q2668) ⟨rfl, hd_X3_isThrown⟩ ⟨(Nat.le_of_ble_eq_true rfl), (Nat.le_of_ble_eq_true rfl)⟩ rfl hl.1 rfl (zw_le zw_nil (Nat.le_of_ble_eq_true rfl)) dX3_read_70) (fun v70 => ?_)
        refine rk_join (β := Int32) (fun (b85 : Int32) ls => lv_has ls 5 [(0, va_rf p0), (2, .int x2)]) (fun (b85 : Int32) ls => F0 m 85 ls [.int b85]) (fun b85 ls hl => ?_) (fun hJ85 => ?_)
        · refine rk_ofs (fun _ _ _ _ _ k => lr_istore hx hb dX3_read_85 hl (Nat.le_of_ble_eq_true rfl) [0, 1] rfl ⟨trivial, ⟨trivial, trivial⟩⟩ k) (fun ls hl => ?_)
          refine rk_of (fun _ _ _ _ _ k => lr_aload_n hx hb dX3_read_87 rfl (lv_at hl 1 rfl) k) ?_
          refine rk_get zm_rdI_eq C (hc_X3 H) (k := 5) (Nat.le_of_ble_eq_true rfl) in_X3 q2582 (fun _ h => h) dX3_read_88 (fun v88 => ?_)
          refine rk_ite (fun _ _ _ _ _ k1 k2 => lv_if_eq (tgt := 139) hx hb dX3_read_91 (by decide) k1 k2) (fun c_91 => ?_) (fun c_91 => ?_)
          · refine rk_ofs (fun _ _ _ _ _ k => lr_iinc (v := x2 + 1) hx hb dX3_read_139 hl (k := 2) rfl rfl (Nat.le_of_ble_eq_true rfl) [1] rfl ⟨trivial, trivial⟩ k) (fun ls hl => ?_)
            refine rk_of (fun _ _ _ _ _ k => lv_goto (tgt := 43) hx hb dX3_read_142 (by decide) k) ?_
            exact ih (x2 + 1) J ls (lv_sub hl [1, 0] rfl) hJ hR
          · refine rk_of (fun _ _ _ _ _ k => lr_aload_n hx hb dX3_read_94 rfl (lv_at hl 1 rfl) (lr_aload_n hx hb dX3_read_95 rfl (lv_at hl 1 rfl) k)) ?_
            refine rk_get zm_rdI_eq C (hc_X3 H) (k := 5) (Nat.le_of_ble_eq_true rfl) in_X3 q2582 (fun _ h => h) dX3_read_96 (fun v96 => ?_)
            refine rk_of (fun _ _ _ _ _ k => lv_bipush (v := 9) hx hb dX3_read_99 rfl k) ?_
            refine rk_join (β := Int32) (fun (b109 : Int32) ls => lv_has ls 5 [(0, va_rf p0), (2, .int x2), (4, .int b85)]) (fun (b109 : Int32) ls => F0 m 109 ls [.int b109, va_rf p0]) (fun b109 ls hl => ?_) (fun hJ109 => ?_)
            · refine rk_of (fun _ _ _ _ _ k => lv_iload_n hx hb dX3_read_109 rfl (lv_at hl 1 rfl) k) ?_
              refine rk_callV hX (cl_V (rest := []) (av := [.int b109, .int x2]) C (hc_X3 H) (ct_X3_isBehind H p0 b109 x2) (lw_V q3042 q3044 qs99 q112 q3045) ⟨rfl, hd_X3_isBehind⟩ ⟨(Nat.le_of_ble_eq_true rfl), (Nat.le_of_ble_eq_true rfl)⟩ rfl hl.1 rfl (zw_le zw_nil (Nat.le_of_ble_eq_true rfl)) dX3_read_110) (fun _ => ?_)
              refine rk_of (fun _ _ _ _ _ k => lr_aload_n hx hb dX3_read_113 rfl (lv_at hl 0 rfl) k) ?_
              refine rk_get zm_rdR_eq C (hc_X3 H) (k := 1) (Nat.le_of_ble_eq_true rfl) in_X3 q2578 (fun _ h => h) dX3_read_114 (fun v114 => ?_)
              refine rk_of (fun _ _ _ _ _ k => lv_iconst (v := 0) hx hb dX3_read_117 rfl (lr_aload_n hx hb dX3_read_118 rfl (lv_at hl 0 rfl) k)) ?_
              refine rk_get zm_rdR_eq C (hc_X3 H) (k := 0) (Nat.le_of_ble_eq_true rfl) in_X3 q2577 (fun _ h => h) dX3_read_119 (fun v119 => ?_)
              refine rk_of (fun _ _ _ _ _ k => lv_iconst (v := 0) hx hb dX3_read_122 rfl k) ?_
              refine rk_callV hX (cl_S (rest := []) C (ct_X3_copies H v114 0 v119 0) (lw_S q2659 q2660 q112 q2661) hd_X3_copies ⟨(Nat.le_of_ble_eq_true rfl), (Nat.le_of_ble_eq_true rfl)⟩ rfl hl.1 rfl (zw_le zw_nil (Nat.le_of_ble_eq_true rfl)) dX3_read_123) (fun _ => ?_)
              refine rk_of (fun _ _ _ _ _ k => lr_aload_n hx hb dX3_read_126 rfl (lv_at hl 0 rfl) (lv_iconst (v := 2) hx hb dX3_read_127 rfl k)) ?_
              refine rk_put C H.2.2.1 (hc_X3 H) (k := 5) (Nat.le_of_ble_eq_true rfl) in_X3 (ty0 := tyX3) tyX3_ok nmX3 q2582 (fun _ h => h) (Or.inl rfl) rfl rfl dX3_read_128 ?_
              refine rk_of (fun _ _ _ _ _ k => lr_aload_n hx hb dX3_read_131 rfl (lv_at hl 0 rfl) (lv_iload hx hb dX3_read_132 (lv_at hl 2 rfl) (lv_iconst (v := 2) hx hb dX3_read_134 rfl k))) ?_
              refine rk_callI hX (cl_V (rest := []) (av := [.int b85, .int 2]) C (hc_X3 H) (ct_X3_ends H p0 b85 2) (lw_V q2673 q2675 qs48 q112 q2676) ⟨rfl, hd_X3_ends⟩ ⟨(Nat.le_of_ble_eq_true rfl), (Nat.le_of_ble_eq_true rfl)⟩ rfl hl.1 rfl (zw_le zw_nil (Nat.le_of_ble_eq_true rfl)) dX3_read_135) (fun v135 => ?_)
              exact hR _ _ (rf_iret C rfl dX3_read_138)
            · refine rk_ite (fun _ _ _ _ _ k1 k2 => lv_icmp_ne (tgt := 108) hx hb dX3_read_101 (by decide) k2 k1) (fun c_101 => ?_) (fun c_101 => ?_)
              · refine rk_of (fun _ _ _ _ _ k => lv_iconst (v := 1) hx hb dX3_read_104 rfl (lv_goto (tgt := 109) hx hb dX3_read_105 (by decide) k)) ?_
                exact hJ109 1 ls (lv_sub hl [1, 2, 0] rfl)
              · refine rk_of (fun _ _ _ _ _ k => lv_iconst (v := 0) hx hb dX3_read_108 rfl k) ?_
                exact hJ109 0 ls (lv_sub hl [1, 2, 0] rfl)
        · refine rk_ite (fun _ _ _ _ _ k1 k2 => lv_if_eq (tgt := 80) hx hb dX3_read_73 (by decide) k1 k2) (fun c_73 => ?_) (fun c_73 => ?_)
          · refine rk_of (fun _ _ _ _ _ k => lr_aload_n hx hb dX3_read_80 rfl (lv_at hl 0 rfl) (lv_iload_n hx hb dX3_read_81 rfl (lv_at hl 2 rfl) k)) ?_
            refine rk_callI hX (cl_V (rest := []) (av := [.int (5 * x2)]) C (hc_X3 H) (ct_X3_does H p0 (5 * x2)) (lw_V q3038 q3040 qs98 q112 q3041) ⟨rfl, hd_X3_does⟩ ⟨(Nat.le_of_ble_eq_true rfl), (Nat.le_of_ble_eq_true rfl)⟩ rfl hl.1 rfl (zw_le zw_nil (Nat.le_of_ble_eq_true rfl)) dX3_read_82) (fun v82 => ?_)
            exact hJ85 v82 ls (lv_sub hl [0, 1] rfl)
          · refine rk_of (fun _ _ _ _ _ k => lv_iconst (v := 0) hx hb dX3_read_76 rfl (lv_goto (tgt := 85) hx hb dX3_read_77 (by decide) k)) ?_
            exact hJ85 0 ls (lv_sub hl [0, 1] rfl)
      · refine rk_ite (fun _ _ _ _ _ k1 k2 => lv_if_ne (tgt := 68) hx hb dX3_read_61 (by decide) k2 k1) (fun c_61 => ?_) (fun c_61 => ?_)
        · refine rk_of (fun _ _ _ _ _ k => lv_iconst (v := 1) hx hb dX3_read_64 rfl (lv_goto (tgt := 69) hx hb dX3_read_65 (by decide) k)) ?_
          exact hJ69 1 ls (lv_sub hl [1, 2, 0] rfl)
        · refine rk_of (fun _ _ _ _ _ k => lv_iconst (v := 0) hx hb dX3_read_68 rfl k) ?_
          exact hJ69 0 ls (lv_sub hl [1, 2, 0] rfl)
theorem ct_X3_read {l : Launch} {Ω : zm_W} {K : zm_K} (H : zm_H Ω K) (a0 : zm_R) : zm_Ct l Ω yX3_read (ws_ yX3_read cX3_read 5 (Option.some Jvm.ClassFile.FieldType.int)) 8 229 [va_rf a0] zm_tvI (fn_X3_read K a0) := by
  refine zm_ct H.1 (by decide +kernel) (zl_le (zl_R zl_nil) (Nat.le_of_ble_eq_true rfl)) ?_
  intro p e R s m args below meth c n0 k0 C hX ls hl
  have hx := C.1
  have hb := C.2.1
  simp only [zg_R, zg_nil] at hl
  have hl : lv_has ls 5 [(0, va_rf a0)] := hl
  refine rk_rf ?_
  unfold fn_X3_read
  refine rk_of (fun _ _ _ _ _ k => lr_aload_n hx hb dX3_read_0 rfl (lv_at hl 0 rfl) k) ?_
  refine rk_callI hX (cl_V (rest := []) (av := []) C (hc_X3 H) (ct_X3_isText H a0) (lw_V q2990 q2992 qs89 q112 q2993) ⟨rfl, hd_X3_isText⟩ ⟨(Nat.le_of_ble_eq_true rfl), (Nat.le_of_ble_eq_true rfl)⟩ rfl hl.1 rfl (zw_le zw_nil (Nat.le_of_ble_eq_true rfl)) dX3_read_1) (fun v1 => ?_)
  refine rk_ofs (fun _ _ _ _ _ k => lr_istore_n hx hb dX3_read_4 rfl hl (Nat.le_of_ble_eq_true rfl) [0] rfl ⟨va_rf_cat _, trivial⟩ k) (fun ls hl => ?_)
  refine rk_of (fun _ _ _ _ _ k => lr_aload_n hx hb dX3_read_5 rfl (lv_at hl 1 rfl) (lv_iconst (v := 0) hx hb dX3_read_6 rfl k)) ?_
  refine rk_put C H.2.2.1 (hc_X3 H) (k := 19) (Nat.le_of_ble_eq_true rfl) in_X3 (ty0 := tyX3) tyX3_ok nmX3 q2596 (fun _ h => h) (Or.inl rfl) rfl rfl dX3_read_7 ?_
  refine rk_of (fun _ _ _ _ _ k => lr_aload_n hx hb dX3_read_10 rfl (lv_at hl 1 rfl) (lv_iload_n hx hb dX3_read_11 rfl (lv_at hl 0 rfl) k)) ?_
  refine rk_join (β := Int32) (fun (b20 : Int32) ls => lv_has ls 5 [(0, va_rf a0)]) (fun (b20 : Int32) ls => F0 m 20 ls [.int b20, va_rf a0]) (fun b20 ls hl => ?_) (fun hJ20 => ?_)
  · refine rk_of (fun _ _ _ _ _ k => lv_iconst (v := 1) hx hb dX3_read_20 rfl k) ?_
    refine rk_callI hX (cl_V (rest := []) (av := [.int b20, .int 1]) C (hc_X3 H) (ct_X3_isThrown H a0 b20 1) (lw_V q2665 q2667 qs46 q112 q2668) ⟨rfl, hd_X3_isThrown⟩ ⟨(Nat.le_of_ble_eq_true rfl), (Nat.le_of_ble_eq_true rfl)⟩ rfl hl.1 rfl (zw_le zw_nil (Nat.le_of_ble_eq_true rfl)) dX3_read_21) (fun v21 => ?_)
    refine rk_ite (fun _ _ _ _ _ k1 k2 => lv_if_eq (tgt := 37) hx hb dX3_read_24 (by decide) k1 k2) (fun c_24 => ?_) (fun c_24 => ?_)
    · refine rk_of (fun _ _ _ _ _ k => lr_aload_n hx hb dX3_read_37 rfl (lv_at hl 0 rfl) k) ?_
      refine rk_callV hX (cl_V (rest := []) (av := []) C (hc_X3 H) (ct_X3_keeps H a0) (lw_V q2655 q2657 qs45 q112 q2658) ⟨rfl, hd_X3_keeps⟩ ⟨(Nat.le_of_ble_eq_true rfl), (Nat.le_of_ble_eq_true rfl)⟩ rfl hl.1 rfl (zw_le zw_nil (Nat.le_of_ble_eq_true rfl)) dX3_read_38) (fun _ => ?_)
      refine rk_ofs (fun _ _ _ _ _ k => lv_iconst (v := 0) hx hb dX3_read_41 rfl (lr_istore_n hx hb dX3_read_42 rfl hl (Nat.le_of_ble_eq_true rfl) [0] rfl ⟨trivial, trivial⟩ k)) (fun ls hl => ?_)
      refine rk_joinx (β := Unit) (fun (b145 : Unit) ls => lv_has ls 5 [(0, va_rf a0)]) (fun (b145 : Unit) ls => F0 m 145 ls []) (fun b145 ls hl => ?_) (fun hJ145 => ?_)
      · refine rk_of (fun _ _ _ _ _ k => lr_aload_n hx hb dX3_read_145 rfl (lv_at hl 0 rfl) (lr_aload_n hx hb dX3_read_146 rfl (lv_at hl 0 rfl) k)) ?_
        refine rk_get zm_rdI_eq C (hc_X3 H) (k := 21) (Nat.le_of_ble_eq_true rfl) in_X3 q2598 (fun _ h => h) dX3_read_147 (fun v147 => ?_)
        refine rk_of (fun _ _ _ _ _ k => lv_iconst (v := 2) hx hb dX3_read_150 rfl k) ?_
        refine rk_callI hX (cl_V (rest := []) (av := [.int v147, .int 2]) C (hc_X3 H) (ct_X3_ends H a0 v147 2) (lw_V q2673 q2675 qs48 q112 q2676) ⟨rfl, hd_X3_ends⟩ ⟨(Nat.le_of_ble_eq_true rfl), (Nat.le_of_ble_eq_true rfl)⟩ rfl hl.1 rfl (zw_le zw_nil (Nat.le_of_ble_eq_true rfl)) dX3_read_151) (fun v151 => ?_)
        exact rk_top (rf_iret C rfl dX3_read_154)
      · exact rf_X3_read_43 H C hX a0 zm_N 0 _ ls (lv_sub hl [1, 0] rfl) hJ145 (fun v g k9 => by
        refine rk_inr ?_
        exact rk_top (k9))
    · refine rk_of (fun _ _ _ _ _ k => lr_aload_n hx hb dX3_read_27 rfl (lv_at hl 0 rfl) (lr_aload_n hx hb dX3_read_28 rfl (lv_at hl 0 rfl) k)) ?_
      refine rk_get zm_rdI_eq C (hc_X3 H) (k := 20) (Nat.le_of_ble_eq_true rfl) in_X3 q2597 (fun _ h => h) dX3_read_29 (fun v29 => ?_)
      refine rk_put C H.2.2.1 (hc_X3 H) (k := 10) (Nat.le_of_ble_eq_true rfl) in_X3 (ty0 := tyX3) tyX3_ok nmX3 q2587 (fun _ h => h) (Or.inl rfl) rfl rfl dX3_read_32 ?_
      refine rk_of (fun _ _ _ _ _ k => lv_iconst (v := 0) hx hb dX3_read_35 rfl k) ?_
      exact rk_top (rf_iret C rfl dX3_read_36)
  · refine rk_ite (fun _ _ _ _ _ k1 k2 => lv_if_ne (tgt := 19) hx hb dX3_read_12 (by decide) k2 k1) (fun c_12 => ?_) (fun c_12 => ?_)
    · refine rk_of (fun _ _ _ _ _ k => lv_iconst (v := 1) hx hb dX3_read_15 rfl (lv_goto (tgt := 20) hx hb dX3_read_16 (by decide) k)) ?_
      exact hJ20 1 ls (lv_sub hl [1] rfl)
    · refine rk_of (fun _ _ _ _ _ k => lv_iconst (v := 0) hx hb dX3_read_19 rfl k) ?_
      exact hJ20 0 ls (lv_sub hl [1] rfl)
theorem hd_X3_refusal : yX3_refusal.cls ≠ "java/lang/invoke/MethodHandle" ∧ yX3_refusal.cls ≠ "java/lang/invoke/VarHandle" ∧ (parseMethodDescriptor yX3_refusal.desc).map (fun d => d.parameters.length) = some 2 := by decide +kernel
noncomputable def fn_X3_refusal (K : zm_K) (a0 : zm_R) (a1 : Int32) (a2 : Int32) : zm_M Int32 :=
  zm_bnd (zm_getI a0 20 6) fun v2 =>
  zm_bnd (α := Int32) (
      if v2 = 0 then
        zm_ret 1
      else
        if a1 = 0 then
          zm_ret 0
        else
          zm_bnd (zm_getI a0 20 8) fun v13 =>
          if v13 = 0 then
            zm_ret 1
          else
            zm_ret 0
    ) fun b24 =>
  zm_bnd (zm_bnd (zm_is a0 20) fun _ => fn_X3_isThrown K a0 b24 1) fun v25 =>
  if v25 = 0 then
    if a1 = 0 then
      if a2 = 0 then
        zm_bnd (zm_getI a0 20 6) fun v67 =>
        zm_ret v67
      else
        zm_bnd (zm_getI a0 20 7) fun v60 =>
        zm_ret v60
    else
      if a2 = 0 then
        zm_bnd (zm_getI a0 20 8) fun v49 =>
        zm_ret v49
      else
        zm_bnd (zm_getI a0 20 9) fun v42 =>
        zm_ret v42
  else
    zm_ret 0
theorem ct_X3_refusal {l : Launch} {Ω : zm_W} {K : zm_K} (H : zm_H Ω K) (a0 : zm_R) (a1 : Int32) (a2 : Int32) : zm_Ct l Ω yX3_refusal (ws_ yX3_refusal cX3_refusal 3 (Option.some Jvm.ClassFile.FieldType.int)) 2 86 [va_rf a0, .int a1, .int a2] zm_tvI (fn_X3_refusal K a0 a1 a2) := by
  refine zm_ct H.1 (by decide +kernel) (zl_le (zl_R (zl_I (zl_I zl_nil))) (Nat.le_of_ble_eq_true rfl)) ?_
  intro p e R s m args below meth c n0 k0 C hX ls hl
  have hx := C.1
  have hb := C.2.1
  simp only [zg_I, zg_R, zg_nil] at hl
  have hl : lv_has ls 3 [(0, va_rf a0), (1, .int a1), (2, .int a2)] := hl
  refine rk_rf ?_
  unfold fn_X3_refusal
  refine rk_of (fun _ _ _ _ _ k => lr_aload_n hx hb dX3_refusal_0 rfl (lv_at hl 0 rfl) (lr_aload_n hx hb dX3_refusal_1 rfl (lv_at hl 0 rfl) k)) ?_
  refine rk_get zm_rdI_eq C (hc_X3 H) (k := 6) (Nat.le_of_ble_eq_true rfl) in_X3 q2583 (fun _ h => h) dX3_refusal_2 (fun v2 => ?_)
  refine rk_join (β := Int32) (fun (b24 : Int32) ls => lv_has ls 3 [(0, va_rf a0), (1, .int a1), (2, .int a2)]) (fun (b24 : Int32) ls => F0 m 24 ls [.int b24, va_rf a0]) (fun b24 ls hl => ?_) (fun hJ24 => ?_)
  · refine rk_of (fun _ _ _ _ _ k => lv_iconst (v := 1) hx hb dX3_refusal_24 rfl k) ?_
    refine rk_callI hX (cl_V (rest := []) (av := [.int b24, .int 1]) C (hc_X3 H) (ct_X3_isThrown H a0 b24 1) (lw_V q2665 q2667 qs46 q112 q2668) ⟨rfl, hd_X3_isThrown⟩ ⟨(Nat.le_of_ble_eq_true rfl), (Nat.le_of_ble_eq_true rfl)⟩ rfl hl.1 rfl (zw_le zw_nil (Nat.le_of_ble_eq_true rfl)) dX3_refusal_25) (fun v25 => ?_)
    refine rk_ite (fun _ _ _ _ _ k1 k2 => lv_if_eq (tgt := 33) hx hb dX3_refusal_28 (by decide) k1 k2) (fun c_28 => ?_) (fun c_28 => ?_)
    · refine rk_ite (fun _ _ _ _ _ k1 k2 => lv_iload_n hx hb dX3_refusal_33 rfl (lv_at hl 1 rfl) (lv_if_eq (tgt := 55) hx hb dX3_refusal_34 (by decide) k1 k2)) (fun c_34 => ?_) (fun c_34 => ?_)
      · refine rk_ite (fun _ _ _ _ _ k1 k2 => lv_iload_n hx hb dX3_refusal_55 rfl (lv_at hl 2 rfl) (lv_if_eq (tgt := 66) hx hb dX3_refusal_56 (by decide) k1 k2)) (fun c_56 => ?_) (fun c_56 => ?_)
        · refine rk_of (fun _ _ _ _ _ k => lr_aload_n hx hb dX3_refusal_66 rfl (lv_at hl 0 rfl) k) ?_
          refine rk_get zm_rdI_eq C (hc_X3 H) (k := 6) (Nat.le_of_ble_eq_true rfl) in_X3 q2583 (fun _ h => h) dX3_refusal_67 (fun v67 => ?_)
          exact rk_top (rf_iret C rfl dX3_refusal_70)
        · refine rk_of (fun _ _ _ _ _ k => lr_aload_n hx hb dX3_refusal_59 rfl (lv_at hl 0 rfl) k) ?_
          refine rk_get zm_rdI_eq C (hc_X3 H) (k := 7) (Nat.le_of_ble_eq_true rfl) in_X3 q2584 (fun _ h => h) dX3_refusal_60 (fun v60 => ?_)
          refine rk_of (fun _ _ _ _ _ k => lv_goto (tgt := 70) hx hb dX3_refusal_63 (by decide) k) ?_
          exact rk_top (rf_iret C rfl dX3_refusal_70)
      · refine rk_ite (fun _ _ _ _ _ k1 k2 => lv_iload_n hx hb dX3_refusal_37 rfl (lv_at hl 2 rfl) (lv_if_eq (tgt := 48) hx hb dX3_refusal_38 (by decide) k1 k2)) (fun c_38 => ?_) (fun c_38 => ?_)
        · refine rk_of (fun _ _ _ _ _ k => lr_aload_n hx hb dX3_refusal_48 rfl (lv_at hl 0 rfl) k) ?_
          refine rk_get zm_rdI_eq C (hc_X3 H) (k := 8) (Nat.le_of_ble_eq_true rfl) in_X3 q2585 (fun _ h => h) dX3_refusal_49 (fun v49 => ?_)
          refine rk_of (fun _ _ _ _ _ k => lv_goto (tgt := 70) hx hb dX3_refusal_52 (by decide) k) ?_
          exact rk_top (rf_iret C rfl dX3_refusal_70)
        · refine rk_of (fun _ _ _ _ _ k => lr_aload_n hx hb dX3_refusal_41 rfl (lv_at hl 0 rfl) k) ?_
          refine rk_get zm_rdI_eq C (hc_X3 H) (k := 9) (Nat.le_of_ble_eq_true rfl) in_X3 q2586 (fun _ h => h) dX3_refusal_42 (fun v42 => ?_)
          refine rk_of (fun _ _ _ _ _ k => lv_goto (tgt := 70) hx hb dX3_refusal_45 (by decide) k) ?_
          exact rk_top (rf_iret C rfl dX3_refusal_70)
    · refine rk_of (fun _ _ _ _ _ k => lv_iconst (v := 0) hx hb dX3_refusal_31 rfl k) ?_
      exact rk_top (rf_iret C rfl dX3_refusal_32)
  · refine rk_ite (fun _ _ _ _ _ k1 k2 => lv_if_eq (tgt := 19) hx hb dX3_refusal_5 (by decide) k1 k2) (fun c_5 => ?_) (fun c_5 => ?_)
    · refine rk_of (fun _ _ _ _ _ k => lv_iconst (v := 1) hx hb dX3_refusal_19 rfl (lv_goto (tgt := 24) hx hb dX3_refusal_20 (by decide) k)) ?_
      exact hJ24 1 ls (lv_sub hl [0, 1, 2] rfl)
    · refine rk_ite (fun _ _ _ _ _ k1 k2 => lv_iload_n hx hb dX3_refusal_8 rfl (lv_at hl 1 rfl) (lv_if_eq (tgt := 23) hx hb dX3_refusal_9 (by decide) k1 k2)) (fun c_9 => ?_) (fun c_9 => ?_)
      · refine rk_of (fun _ _ _ _ _ k => lv_iconst (v := 0) hx hb dX3_refusal_23 rfl k) ?_
        exact hJ24 0 ls (lv_sub hl [0, 1, 2] rfl)
      · refine rk_of (fun _ _ _ _ _ k => lr_aload_n hx hb dX3_refusal_12 rfl (lv_at hl 0 rfl) k) ?_
        refine rk_get zm_rdI_eq C (hc_X3 H) (k := 8) (Nat.le_of_ble_eq_true rfl) in_X3 q2585 (fun _ h => h) dX3_refusal_13 (fun v13 => ?_)
        refine rk_ite (fun _ _ _ _ _ k1 k2 => lv_if_ne (tgt := 23) hx hb dX3_refusal_16 (by decide) k2 k1) (fun c_16 => ?_) (fun c_16 => ?_)
        · refine rk_of (fun _ _ _ _ _ k => lv_iconst (v := 1) hx hb dX3_refusal_19 rfl (lv_goto (tgt := 24) hx hb dX3_refusal_20 (by decide) k)) ?_
          exact hJ24 1 ls (lv_sub hl [0, 1, 2] rfl)
        · refine rk_of (fun _ _ _ _ _ k => lv_iconst (v := 0) hx hb dX3_refusal_23 rfl k) ?_
          exact hJ24 0 ls (lv_sub hl [0, 1, 2] rfl)
theorem hd_X3_restore : yX3_restore.cls ≠ "java/lang/invoke/MethodHandle" ∧ yX3_restore.cls ≠ "java/lang/invoke/VarHandle" ∧ (parseMethodDescriptor yX3_restore.desc).map (fun d => d.parameters.length) = some 0 := by decide +kernel
noncomputable def fn_X3_restore (K : zm_K) (a0 : zm_R) : zm_M Int32 :=
  zm_bnd (zm_getI a0 20 11) fun v2 =>
  zm_bnd (α := Int32) (
      if v2 = 0 then
        zm_ret 1
      else
        zm_ret 0
    ) fun b13 =>
  zm_bnd (zm_bnd (zm_is a0 20) fun _ => fn_X3_isThrown K a0 b13 1) fun v14 =>
  if v14 = 0 then
    zm_bnd (zm_getR a0 20 2) fun v23 =>
    zm_bnd (zm_getR a0 20 0) fun v28 =>
    zm_bnd (fn_X3_copies K v23 0 v28 0) fun _ =>
    zm_bnd (zm_putF K a0 20 4 (.int 0)) fun _ =>
    zm_bnd (zm_bnd (zm_is a0 20) fun _ => fn_X3_allLettings K a0) fun v41 =>
    zm_ret v41
  else
    zm_ret 0
theorem ct_X3_restore {l : Launch} {Ω : zm_W} {K : zm_K} (H : zm_H Ω K) (a0 : zm_R) : zm_Ct l Ω yX3_restore (ws_ yX3_restore cX3_restore 1 (Option.some Jvm.ClassFile.FieldType.int)) 5 150 [va_rf a0] zm_tvI (fn_X3_restore K a0) := by
  refine zm_ct H.1 (by decide +kernel) (zl_le (zl_R zl_nil) (Nat.le_of_ble_eq_true rfl)) ?_
  intro p e R s m args below meth c n0 k0 C hX ls hl
  have hx := C.1
  have hb := C.2.1
  simp only [zg_R, zg_nil] at hl
  have hl : lv_has ls 1 [(0, va_rf a0)] := hl
  refine rk_rf ?_
  unfold fn_X3_restore
  refine rk_of (fun _ _ _ _ _ k => lr_aload_n hx hb dX3_restore_0 rfl (lv_at hl 0 rfl) (lr_aload_n hx hb dX3_restore_1 rfl (lv_at hl 0 rfl) k)) ?_
  refine rk_get zm_rdI_eq C (hc_X3 H) (k := 11) (Nat.le_of_ble_eq_true rfl) in_X3 q2588 (fun _ h => h) dX3_restore_2 (fun v2 => ?_)
  refine rk_join (β := Int32) (fun (b13 : Int32) ls => lv_has ls 1 [(0, va_rf a0)]) (fun (b13 : Int32) ls => F0 m 13 ls [.int b13, va_rf a0]) (fun b13 ls hl => ?_) (fun hJ13 => ?_)
  · refine rk_of (fun _ _ _ _ _ k => lv_iconst (v := 1) hx hb dX3_restore_13 rfl k) ?_
    refine rk_callI hX (cl_V (rest := []) (av := [.int b13, .int 1]) C (hc_X3 H) (ct_X3_isThrown H a0 b13 1) (lw_V q2665 q2667 qs46 q112 q2668) ⟨rfl, hd_X3_isThrown⟩ ⟨(Nat.le_of_ble_eq_true rfl), (Nat.le_of_ble_eq_true rfl)⟩ rfl hl.1 rfl (zw_le zw_nil (Nat.le_of_ble_eq_true rfl)) dX3_restore_14) (fun v14 => ?_)
    refine rk_ite (fun _ _ _ _ _ k1 k2 => lv_if_eq (tgt := 22) hx hb dX3_restore_17 (by decide) k1 k2) (fun c_17 => ?_) (fun c_17 => ?_)
    · refine rk_of (fun _ _ _ _ _ k => lr_aload_n hx hb dX3_restore_22 rfl (lv_at hl 0 rfl) k) ?_
      refine rk_get zm_rdR_eq C (hc_X3 H) (k := 2) (Nat.le_of_ble_eq_true rfl) in_X3 q2579 (fun _ h => h) dX3_restore_23 (fun v23 => ?_)
      refine rk_of (fun _ _ _ _ _ k => lv_iconst (v := 0) hx hb dX3_restore_26 rfl (lr_aload_n hx hb dX3_restore_27 rfl (lv_at hl 0 rfl) k)) ?_
      refine rk_get zm_rdR_eq C (hc_X3 H) (k := 0) (Nat.le_of_ble_eq_true rfl) in_X3 q2577 (fun _ h => h) dX3_restore_28 (fun v28 => ?_)
      refine rk_of (fun _ _ _ _ _ k => lv_iconst (v := 0) hx hb dX3_restore_31 rfl k) ?_
      refine rk_callV hX (cl_S (rest := []) C (ct_X3_copies H v23 0 v28 0) (lw_S q2659 q2660 q112 q2661) hd_X3_copies ⟨(Nat.le_of_ble_eq_true rfl), (Nat.le_of_ble_eq_true rfl)⟩ rfl hl.1 rfl (zw_le zw_nil (Nat.le_of_ble_eq_true rfl)) dX3_restore_32) (fun _ => ?_)
      refine rk_of (fun _ _ _ _ _ k => lr_aload_n hx hb dX3_restore_35 rfl (lv_at hl 0 rfl) (lv_iconst (v := 0) hx hb dX3_restore_36 rfl k)) ?_
      refine rk_put C H.2.2.1 (hc_X3 H) (k := 4) (Nat.le_of_ble_eq_true rfl) in_X3 (ty0 := tyX3) tyX3_ok nmX3 q2581 (fun _ h => h) (Or.inl rfl) rfl rfl dX3_restore_37 ?_
      refine rk_of (fun _ _ _ _ _ k => lr_aload_n hx hb dX3_restore_40 rfl (lv_at hl 0 rfl) k) ?_
      refine rk_callI hX (cl_V (rest := []) (av := []) C (hc_X3 H) (ct_X3_allLettings H a0) (lw_V q2957 q2959 qs86 q112 q2960) ⟨rfl, hd_X3_allLettings⟩ ⟨(Nat.le_of_ble_eq_true rfl), (Nat.le_of_ble_eq_true rfl)⟩ rfl hl.1 rfl (zw_le zw_nil (Nat.le_of_ble_eq_true rfl)) dX3_restore_41) (fun v41 => ?_)
      exact rk_top (rf_iret C rfl dX3_restore_44)
    · refine rk_of (fun _ _ _ _ _ k => lv_iconst (v := 0) hx hb dX3_restore_20 rfl k) ?_
      exact rk_top (rf_iret C rfl dX3_restore_21)
  · refine rk_ite (fun _ _ _ _ _ k1 k2 => lv_if_ne (tgt := 12) hx hb dX3_restore_5 (by decide) k2 k1) (fun c_5 => ?_) (fun c_5 => ?_)
    · refine rk_of (fun _ _ _ _ _ k => lv_iconst (v := 1) hx hb dX3_restore_8 rfl (lv_goto (tgt := 13) hx hb dX3_restore_9 (by decide) k)) ?_
      exact hJ13 1 ls (lv_sub hl [0] rfl)
    · refine rk_of (fun _ _ _ _ _ k => lv_iconst (v := 0) hx hb dX3_restore_12 rfl k) ?_
      exact hJ13 0 ls (lv_sub hl [0] rfl)
theorem hd_X3_roomFor : yX3_roomFor.cls ≠ "java/lang/invoke/MethodHandle" ∧ yX3_roomFor.cls ≠ "java/lang/invoke/VarHandle" ∧ (parseMethodDescriptor yX3_roomFor.desc).map (fun d => d.parameters.length) = some 3 := by decide +kernel
noncomputable def fn_X3_roomFor (K : zm_K) (a0 : zm_R) (a1 : Int32) (a2 : Int32) (a3 : Int32) : zm_M Int32 :=
  zm_bnd (fn_X3_isFor K a1 a2 a3) fun v4 =>
  zm_bnd (α := Int32) (
      if v4 = 0 then
        zm_ret 1
      else
        zm_ret 0
    ) fun b15 =>
  zm_bnd (zm_bnd (zm_is a0 20) fun _ => fn_X3_isThrown K a0 b15 1) fun v16 =>
  if v16 = 0 then
    zm_bnd (zm_bnd (zm_is a0 20) fun _ => fn_X3_room K a0 a1 a2 a3) fun v28 =>
    zm_bnd (α := Int32) (
        if 0 ≤ v28 then
          zm_ret 0
        else
          zm_ret 1
      ) fun b44 =>
    zm_bnd (zm_bnd (zm_is a0 20) fun _ => fn_X3_isThrown K a0 b44 2) fun v45 =>
    if v45 = 0 then
      zm_ret v28
    else
      zm_ret 0
  else
    zm_ret 0
theorem ct_X3_roomFor {l : Launch} {Ω : zm_W} {K : zm_K} (H : zm_H Ω K) (a0 : zm_R) (a1 : Int32) (a2 : Int32) (a3 : Int32) : zm_Ct l Ω yX3_roomFor (ws_ yX3_roomFor cX3_roomFor 5 (Option.some Jvm.ClassFile.FieldType.int)) 6 179 [va_rf a0, .int a1, .int a2, .int a3] zm_tvI (fn_X3_roomFor K a0 a1 a2 a3) := by
  refine zm_ct H.1 (by decide +kernel) (zl_le (zl_R (zl_I (zl_I (zl_I zl_nil)))) (Nat.le_of_ble_eq_true rfl)) ?_
  intro p e R s m args below meth c n0 k0 C hX ls hl
  have hx := C.1
  have hb := C.2.1
  simp only [zg_I, zg_R, zg_nil] at hl
  have hl : lv_has ls 5 [(0, va_rf a0), (1, .int a1), (2, .int a2), (3, .int a3)] := hl
  refine rk_rf ?_
  unfold fn_X3_roomFor
  refine rk_of (fun _ _ _ _ _ k => lr_aload_n hx hb dX3_roomFor_0 rfl (lv_at hl 0 rfl) (lv_iload_n hx hb dX3_roomFor_1 rfl (lv_at hl 1 rfl) (lv_iload_n hx hb dX3_roomFor_2 rfl (lv_at hl 2 rfl) (lv_iload_n hx hb dX3_roomFor_3 rfl (lv_at hl 3 rfl) k)))) ?_
  refine rk_callI hX (cl_S (rest := [va_rf a0]) C (ct_X3_isFor H a1 a2 a3) (lw_S q2689 q2690 q112 q2691) hd_X3_isFor ⟨(Nat.le_of_ble_eq_true rfl), (Nat.le_of_ble_eq_true rfl)⟩ rfl hl.1 rfl (zw_le (zw_R zw_nil) (Nat.le_of_ble_eq_true rfl)) dX3_roomFor_4) (fun v4 => ?_)
  refine rk_join (β := Int32) (fun (b15 : Int32) ls => lv_has ls 5 [(0, va_rf a0), (1, .int a1), (2, .int a2), (3, .int a3)]) (fun (b15 : Int32) ls => F0 m 15 ls [.int b15, va_rf a0]) (fun b15 ls hl => ?_) (fun hJ15 => ?_)
  · refine rk_of (fun _ _ _ _ _ k => lv_iconst (v := 1) hx hb dX3_roomFor_15 rfl k) ?_
    refine rk_callI hX (cl_V (rest := []) (av := [.int b15, .int 1]) C (hc_X3 H) (ct_X3_isThrown H a0 b15 1) (lw_V q2665 q2667 qs46 q112 q2668) ⟨rfl, hd_X3_isThrown⟩ ⟨(Nat.le_of_ble_eq_true rfl), (Nat.le_of_ble_eq_true rfl)⟩ rfl hl.1 rfl (zw_le zw_nil (Nat.le_of_ble_eq_true rfl)) dX3_roomFor_16) (fun v16 => ?_)
    refine rk_ite (fun _ _ _ _ _ k1 k2 => lv_if_eq (tgt := 24) hx hb dX3_roomFor_19 (by decide) k1 k2) (fun c_19 => ?_) (fun c_19 => ?_)
    · refine rk_of (fun _ _ _ _ _ k => lr_aload_n hx hb dX3_roomFor_24 rfl (lv_at hl 0 rfl) (lv_iload_n hx hb dX3_roomFor_25 rfl (lv_at hl 1 rfl) (lv_iload_n hx hb dX3_roomFor_26 rfl (lv_at hl 2 rfl) (lv_iload_n hx hb dX3_roomFor_27 rfl (lv_at hl 3 rfl) k)))) ?_
      refine rk_callI hX (cl_V (rest := []) (av := [.int a1, .int a2, .int a3]) C (hc_X3 H) (ct_X3_room H a0 a1 a2 a3) (lw_V q2858 q2860 qs73 q112 q2861) ⟨rfl, hd_X3_room⟩ ⟨(Nat.le_of_ble_eq_true rfl), (Nat.le_of_ble_eq_true rfl)⟩ rfl hl.1 rfl (zw_le zw_nil (Nat.le_of_ble_eq_true rfl)) dX3_roomFor_28) (fun v28 => ?_)
      refine rk_ofs (fun _ _ _ _ _ k => lr_istore hx hb dX3_roomFor_31 hl (Nat.le_of_ble_eq_true rfl) [0] rfl ⟨trivial, trivial⟩ k) (fun ls hl => ?_)
      refine rk_of (fun _ _ _ _ _ k => lr_aload_n hx hb dX3_roomFor_33 rfl (lv_at hl 1 rfl) (lv_iload hx hb dX3_roomFor_34 (lv_at hl 0 rfl) k)) ?_
      refine rk_join (β := Int32) (fun (b44 : Int32) ls => lv_has ls 5 [(4, .int v28)]) (fun (b44 : Int32) ls => F0 m 44 ls [.int b44, va_rf a0]) (fun b44 ls hl => ?_) (fun hJ44 => ?_)
      · refine rk_of (fun _ _ _ _ _ k => lv_iconst (v := 2) hx hb dX3_roomFor_44 rfl k) ?_
        refine rk_callI hX (cl_V (rest := []) (av := [.int b44, .int 2]) C (hc_X3 H) (ct_X3_isThrown H a0 b44 2) (lw_V q2665 q2667 qs46 q112 q2668) ⟨rfl, hd_X3_isThrown⟩ ⟨(Nat.le_of_ble_eq_true rfl), (Nat.le_of_ble_eq_true rfl)⟩ rfl hl.1 rfl (zw_le zw_nil (Nat.le_of_ble_eq_true rfl)) dX3_roomFor_45) (fun v45 => ?_)
        refine rk_ite (fun _ _ _ _ _ k1 k2 => lv_if_eq (tgt := 55) hx hb dX3_roomFor_48 (by decide) k1 k2) (fun c_48 => ?_) (fun c_48 => ?_)
        · refine rk_of (fun _ _ _ _ _ k => lv_iload hx hb dX3_roomFor_55 (lv_at hl 0 rfl) k) ?_
          exact rk_top (rf_iret C rfl dX3_roomFor_57)
        · refine rk_of (fun _ _ _ _ _ k => lv_iconst (v := 0) hx hb dX3_roomFor_51 rfl (lv_goto (tgt := 57) hx hb dX3_roomFor_52 (by decide) k)) ?_
          exact rk_top (rf_iret C rfl dX3_roomFor_57)
      · refine rk_ite (fun _ _ _ _ _ k1 k2 => lv_if_ge (tgt := 43) hx hb dX3_roomFor_36 (by decide) k1 k2) (fun c_36 => ?_) (fun c_36 => ?_)
        · refine rk_of (fun _ _ _ _ _ k => lv_iconst (v := 0) hx hb dX3_roomFor_43 rfl k) ?_
          exact hJ44 0 ls (lv_sub hl [0] rfl)
        · refine rk_of (fun _ _ _ _ _ k => lv_iconst (v := 1) hx hb dX3_roomFor_39 rfl (lv_goto (tgt := 44) hx hb dX3_roomFor_40 (by decide) k)) ?_
          exact hJ44 1 ls (lv_sub hl [0] rfl)
    · refine rk_of (fun _ _ _ _ _ k => lv_iconst (v := 0) hx hb dX3_roomFor_22 rfl k) ?_
      exact rk_top (rf_iret C rfl dX3_roomFor_23)
  · refine rk_ite (fun _ _ _ _ _ k1 k2 => lv_if_ne (tgt := 14) hx hb dX3_roomFor_7 (by decide) k2 k1) (fun c_7 => ?_) (fun c_7 => ?_)
    · refine rk_of (fun _ _ _ _ _ k => lv_iconst (v := 1) hx hb dX3_roomFor_10 rfl (lv_goto (tgt := 15) hx hb dX3_roomFor_11 (by decide) k)) ?_
      exact hJ15 1 ls (lv_sub hl [0, 1, 2, 3] rfl)
    · refine rk_of (fun _ _ _ _ _ k => lv_iconst (v := 0) hx hb dX3_roomFor_14 rfl k) ?_
      exact hJ15 0 ls (lv_sub hl [0, 1, 2, 3] rfl)
theorem hd_X3_save : yX3_save.cls ≠ "java/lang/invoke/MethodHandle" ∧ yX3_save.cls ≠ "java/lang/invoke/VarHandle" ∧ (parseMethodDescriptor yX3_save.desc).map (fun d => d.parameters.length) = some 0 := by decide +kernel
noncomputable def fn_X3_save (K : zm_K) (a0 : zm_R) : zm_M Int32 :=
  zm_bnd (zm_putF K a0 20 5 (.int 0)) fun _ =>
  zm_bnd (zm_getR a0 20 0) fun v6 =>
  zm_bnd (zm_getR a0 20 2) fun v11 =>
  zm_bnd (fn_X3_copies K v6 0 v11 0) fun _ =>
  zm_bnd (zm_putF K a0 20 11 (.int 1)) fun _ =>
  zm_bnd (zm_bnd (zm_is a0 20) fun _ => fn_X3_allLettings K a0) fun v24 =>
  zm_ret v24
theorem ct_X3_save {l : Launch} {Ω : zm_W} {K : zm_K} (H : zm_H Ω K) (a0 : zm_R) : zm_Ct l Ω yX3_save (ws_ yX3_save cX3_save 1 (Option.some Jvm.ClassFile.FieldType.int)) 5 150 [va_rf a0] zm_tvI (fn_X3_save K a0) := by
  refine zm_ct H.1 (by decide +kernel) (zl_le (zl_R zl_nil) (Nat.le_of_ble_eq_true rfl)) ?_
  intro p e R s m args below meth c n0 k0 C hX ls hl
  have hx := C.1
  have hb := C.2.1
  simp only [zg_R, zg_nil] at hl
  have hl : lv_has ls 1 [(0, va_rf a0)] := hl
  refine rk_rf ?_
  unfold fn_X3_save
  refine rk_of (fun _ _ _ _ _ k => lr_aload_n hx hb dX3_save_0 rfl (lv_at hl 0 rfl) (lv_iconst (v := 0) hx hb dX3_save_1 rfl k)) ?_
  refine rk_put C H.2.2.1 (hc_X3 H) (k := 5) (Nat.le_of_ble_eq_true rfl) in_X3 (ty0 := tyX3) tyX3_ok nmX3 q2582 (fun _ h => h) (Or.inl rfl) rfl rfl dX3_save_2 ?_
  refine rk_of (fun _ _ _ _ _ k => lr_aload_n hx hb dX3_save_5 rfl (lv_at hl 0 rfl) k) ?_
  refine rk_get zm_rdR_eq C (hc_X3 H) (k := 0) (Nat.le_of_ble_eq_true rfl) in_X3 q2577 (fun _ h => h) dX3_save_6 (fun v6 => ?_)
  refine rk_of (fun _ _ _ _ _ k => lv_iconst (v := 0) hx hb dX3_save_9 rfl (lr_aload_n hx hb dX3_save_10 rfl (lv_at hl 0 rfl) k)) ?_
  refine rk_get zm_rdR_eq C (hc_X3 H) (k := 2) (Nat.le_of_ble_eq_true rfl) in_X3 q2579 (fun _ h => h) dX3_save_11 (fun v11 => ?_)
  refine rk_of (fun _ _ _ _ _ k => lv_iconst (v := 0) hx hb dX3_save_14 rfl k) ?_
  refine rk_callV hX (cl_S (rest := []) C (ct_X3_copies H v6 0 v11 0) (lw_S q2659 q2660 q112 q2661) hd_X3_copies ⟨(Nat.le_of_ble_eq_true rfl), (Nat.le_of_ble_eq_true rfl)⟩ rfl hl.1 rfl (zw_le zw_nil (Nat.le_of_ble_eq_true rfl)) dX3_save_15) (fun _ => ?_)
  refine rk_of (fun _ _ _ _ _ k => lr_aload_n hx hb dX3_save_18 rfl (lv_at hl 0 rfl) (lv_iconst (v := 1) hx hb dX3_save_19 rfl k)) ?_
  refine rk_put C H.2.2.1 (hc_X3 H) (k := 11) (Nat.le_of_ble_eq_true rfl) in_X3 (ty0 := tyX3) tyX3_ok nmX3 q2588 (fun _ h => h) (Or.inl rfl) rfl rfl dX3_save_20 ?_
  refine rk_of (fun _ _ _ _ _ k => lr_aload_n hx hb dX3_save_23 rfl (lv_at hl 0 rfl) k) ?_
  refine rk_callI hX (cl_V (rest := []) (av := []) C (hc_X3 H) (ct_X3_allLettings H a0) (lw_V q2957 q2959 qs86 q112 q2960) ⟨rfl, hd_X3_allLettings⟩ ⟨(Nat.le_of_ble_eq_true rfl), (Nat.le_of_ble_eq_true rfl)⟩ rfl hl.1 rfl (zw_le zw_nil (Nat.le_of_ble_eq_true rfl)) dX3_save_24) (fun v24 => ?_)
  exact rk_top (rf_iret C rfl dX3_save_27)
theorem hd_X3_show : yX3_show.cls ≠ "java/lang/invoke/MethodHandle" ∧ yX3_show.cls ≠ "java/lang/invoke/VarHandle" ∧ (parseMethodDescriptor yX3_show.desc).map (fun d => d.parameters.length) = some 2 := by decide +kernel
noncomputable def fn_X3_show_53 (K : zm_K) (p0 : zm_R) (p1 : Int32) (p2 : Int32) : Nat → Int32 → zm_M (Unit)
  | 0, _ => zm_fl
  | n + 1, x3 =>
    if ((60 * p2) + 60) ≤ x3 then
      zm_ret ()
    else
      zm_bnd (zm_bnd (zm_is p0 20) fun _ => fn_X3_letIn K p0 p1 x3 (x3 + 5)) fun v70 =>
      zm_bnd (α := Int32) (
          if v70 = 5 then
            zm_ret 35
          else
            if v70 ≤ 0 then
              zm_ret 46
            else
              zm_ret 43
        ) fun b99 =>
      zm_bnd (zm_bnd (zm_is p0 20) fun _ => fn_X3_writes K p0 b99) fun _ =>
      fn_X3_show_53 K p0 p1 p2 n (x3 + 5)
noncomputable def fn_X3_show (K : zm_K) (a0 : zm_R) (a1 : Int32) (a2 : Int32) : zm_M Int32 :=
  zm_bnd (zm_bnd (zm_is a0 20) fun _ => fn_X3_isBox K a0 a1) fun v3 =>
  zm_bnd (α := Int32) (
      if v3 = 0 then
        zm_ret 1
      else
        zm_ret 0
    ) fun b14 =>
  zm_bnd (zm_bnd (zm_is a0 20) fun _ => fn_X3_isThrown K a0 b14 1) fun v15 =>
  if v15 = 0 then
    zm_bnd (fn_X3_isHour K a2) fun v23 =>
    zm_bnd (α := Int32) (
        if v23 = 0 then
          zm_ret 1
        else
          zm_ret 0
      ) fun b34 =>
    zm_bnd (zm_bnd (zm_is a0 20) fun _ => fn_X3_isThrown K a0 b34 2) fun v35 =>
    if v35 = 0 then
      zm_bnd (zm_putF K a0 20 16 (.int 0)) fun _ =>
      zm_bnd (α := Unit) (fn_X3_show_53 K a0 a1 a2 zm_N (60 * a2)) fun (_ : Unit) =>
      zm_bnd (zm_getI a0 20 16) fun v109 =>
      zm_ret v109
    else
      zm_ret 0
  else
    zm_ret 0
theorem rf_X3_show_53 (H : zm_H Ω K) (C : zm_C p l R s m args meth c Ω lw_all cX3_show yX3_show.cls yX3_show.name 5 5 153 (Option.some Jvm.ClassFile.FieldType.int)) (hX : zm_XO p l e R s m args below meth c Ω n0 k0 (zm_QFs below args s Ω n0 k0 zm_tvI)) (p0 : zm_R) (p1 : Int32) (p2 : Int32) : ∀ (n : Nat) (x3 : Int32) (J : (Unit) → zm_M Int32) (ls : Array Slot), lv_has ls 5 [(0, va_rf p0), (1, .int p1), (2, .int p2), (3, .int x3)] → (∀ (b : Unit) (ls : Array Slot), lv_has ls 5 [(0, va_rf p0)] → zm_RK p l e R s m args below meth c Ω n0 k0 (zm_QFs below args s Ω n0 k0 zm_tvI) (zm_ret b) J (F0 m 108 ls [])) → zm_RK p l e R s m args below meth c Ω n0 k0 (zm_QFs below args s Ω n0 k0 zm_tvI) (fn_X3_show_53 K p0 p1 p2 n x3) J (F0 m 53 ls []) := by
  have hx := C.1
  have hb := C.2.1
  intro n
  induction n with
  | zero => intro x3 J ls hl hJ; exact rk_fl
  | succ n ih =>
    intro x3 J ls hl hJ
    unfold fn_X3_show_53
    refine rk_ite (fun _ _ _ _ _ k1 k2 => lv_iload_n hx hb dX3_show_53 rfl (lv_at hl 3 rfl) (lv_bipush (v := 60) hx hb dX3_show_54 rfl (lv_iload_n hx hb dX3_show_56 rfl (lv_at hl 2 rfl) (lv_imul hx hb dX3_show_57 (lv_bipush (v := 60) hx hb dX3_show_58 rfl (lv_iadd hx hb dX3_show_60 (lv_icmp_ge (tgt := 108) hx hb dX3_show_61 (by decide) k1 k2))))))) (fun c_61 => ?_) (fun c_61 => ?_)
    · exact hJ () ls (lv_sub hl [0] rfl)
    · refine rk_of (fun _ _ _ _ _ k => lr_aload_n hx hb dX3_show_64 rfl (lv_at hl 0 rfl) (lv_iload_n hx hb dX3_show_65 rfl (lv_at hl 1 rfl) (lv_iload_n hx hb dX3_show_66 rfl (lv_at hl 3 rfl) (lv_iload_n hx hb dX3_show_67 rfl (lv_at hl 3 rfl) (lv_iconst (v := 5) hx hb dX3_show_68 rfl (lv_iadd hx hb dX3_show_69 k)))))) ?_
      refine rk_callI hX (cl_V (rest := []) (av := [.int p1, .int x3, .int (x3 + 5)]) C (hc_X3 H) (ct_X3_letIn H p0 p1 x3 (x3 + 5)) (lw_V q2874 q2876 qs76 q112 q2877) ⟨rfl, hd_X3_letIn⟩ ⟨(Nat.le_of_ble_eq_true rfl), (Nat.le_of_ble_eq_true rfl)⟩ rfl hl.1 rfl (zw_le zw_nil (Nat.le_of_ble_eq_true rfl)) dX3_show_70) (fun v70 => ?_)
      refine rk_ofs (fun _ _ _ _ _ k => lr_istore hx hb dX3_show_73 hl (Nat.le_of_ble_eq_true rfl) [0, 1, 2, 3] rfl ⟨trivial, ⟨trivial, ⟨trivial, ⟨rfl, trivial⟩⟩⟩⟩ k) (fun ls hl => ?_)
      refine rk_of (fun _ _ _ _ _ k => lr_aload_n hx hb dX3_show_75 rfl (lv_at hl 1 rfl) (lv_iload hx hb dX3_show_76 (lv_at hl 0 rfl) (lv_iconst (v := 5) hx hb dX3_show_78 rfl k))) ?_
      refine rk_join (β := Int32) (fun (b99 : Int32) ls => lv_has ls 5 [(0, va_rf p0), (1, .int p1), (2, .int p2), (3, .int x3)]) (fun (b99 : Int32) ls => F0 m 99 ls [.int b99, va_rf p0]) (fun b99 ls hl => ?_) (fun hJ99 => ?_)
      · refine rk_callV hX (cl_V (rest := []) (av := [.int b99]) C (hc_X3 H) (ct_X3_writes H p0 b99) (lw_V q2937 q2939 qs84 q112 q2940) ⟨rfl, hd_X3_writes⟩ ⟨(Nat.le_of_ble_eq_true rfl), (Nat.le_of_ble_eq_true rfl)⟩ rfl hl.1 rfl (zw_le zw_nil (Nat.le_of_ble_eq_true rfl)) dX3_show_99) (fun _ => ?_)
        refine rk_ofs (fun _ _ _ _ _ k => lr_iinc (v := x3 + 5) hx hb dX3_show_102 hl (k := 3) rfl rfl (Nat.le_of_ble_eq_true rfl) [0, 1, 2] rfl ⟨trivial, ⟨trivial, ⟨rfl, trivial⟩⟩⟩ k) (fun ls hl => ?_)
        refine rk_of (fun _ _ _ _ _ k => lv_goto (tgt := 53) hx hb dX3_show_105 (by decide) k) ?_
        exact ih (x3 + 5) J ls (lv_sub hl [1, 2, 3, 0] rfl) hJ
      · refine rk_ite (fun _ _ _ _ _ k1 k2 => lv_icmp_ne (tgt := 87) hx hb dX3_show_79 (by decide) k2 k1) (fun c_79 => ?_) (fun c_79 => ?_)
        · refine rk_of (fun _ _ _ _ _ k => lv_bipush (v := 35) hx hb dX3_show_82 rfl (lv_goto (tgt := 99) hx hb dX3_show_84 (by decide) k)) ?_
          exact hJ99 35 ls (lv_sub hl [1, 2, 3, 4] rfl)
        · refine rk_ite (fun _ _ _ _ _ k1 k2 => lv_iload hx hb dX3_show_87 (lv_at hl 0 rfl) (lv_if_le (tgt := 97) hx hb dX3_show_89 (by decide) k1 k2)) (fun c_89 => ?_) (fun c_89 => ?_)
          · refine rk_of (fun _ _ _ _ _ k => lv_bipush (v := 46) hx hb dX3_show_97 rfl k) ?_
            exact hJ99 46 ls (lv_sub hl [1, 2, 3, 4] rfl)
          · refine rk_of (fun _ _ _ _ _ k => lv_bipush (v := 43) hx hb dX3_show_92 rfl (lv_goto (tgt := 99) hx hb dX3_show_94 (by decide) k)) ?_
            exact hJ99 43 ls (lv_sub hl [1, 2, 3, 4] rfl)
theorem ct_X3_show {l : Launch} {Ω : zm_W} {K : zm_K} (H : zm_H Ω K) (a0 : zm_R) (a1 : Int32) (a2 : Int32) : zm_Ct l Ω yX3_show (ws_ yX3_show cX3_show 5 (Option.some Jvm.ClassFile.FieldType.int)) 5 153 [va_rf a0, .int a1, .int a2] zm_tvI (fn_X3_show K a0 a1 a2) := by
  refine zm_ct H.1 (by decide +kernel) (zl_le (zl_R (zl_I (zl_I zl_nil))) (Nat.le_of_ble_eq_true rfl)) ?_
  intro p e R s m args below meth c n0 k0 C hX ls hl
  have hx := C.1
  have hb := C.2.1
  simp only [zg_I, zg_R, zg_nil] at hl
  have hl : lv_has ls 5 [(0, va_rf a0), (1, .int a1), (2, .int a2)] := hl
  refine rk_rf ?_
  unfold fn_X3_show
  refine rk_of (fun _ _ _ _ _ k => lr_aload_n hx hb dX3_show_0 rfl (lv_at hl 0 rfl) (lr_aload_n hx hb dX3_show_1 rfl (lv_at hl 0 rfl) (lv_iload_n hx hb dX3_show_2 rfl (lv_at hl 1 rfl) k))) ?_
  refine rk_callI hX (cl_V (rest := [va_rf a0]) (av := [.int a1]) C (hc_X3 H) (ct_X3_isBox H a0 a1) (lw_V q2685 q2687 qs50 q112 q2688) ⟨rfl, hd_X3_isBox⟩ ⟨(Nat.le_of_ble_eq_true rfl), (Nat.le_of_ble_eq_true rfl)⟩ rfl hl.1 rfl (zw_le (zw_R zw_nil) (Nat.le_of_ble_eq_true rfl)) dX3_show_3) (fun v3 => ?_)
  refine rk_join (β := Int32) (fun (b14 : Int32) ls => lv_has ls 5 [(0, va_rf a0), (1, .int a1), (2, .int a2)]) (fun (b14 : Int32) ls => F0 m 14 ls [.int b14, va_rf a0]) (fun b14 ls hl => ?_) (fun hJ14 => ?_)
  · refine rk_of (fun _ _ _ _ _ k => lv_iconst (v := 1) hx hb dX3_show_14 rfl k) ?_
    refine rk_callI hX (cl_V (rest := []) (av := [.int b14, .int 1]) C (hc_X3 H) (ct_X3_isThrown H a0 b14 1) (lw_V q2665 q2667 qs46 q112 q2668) ⟨rfl, hd_X3_isThrown⟩ ⟨(Nat.le_of_ble_eq_true rfl), (Nat.le_of_ble_eq_true rfl)⟩ rfl hl.1 rfl (zw_le zw_nil (Nat.le_of_ble_eq_true rfl)) dX3_show_15) (fun v15 => ?_)
    refine rk_ite (fun _ _ _ _ _ k1 k2 => lv_if_ne (tgt := 41) hx hb dX3_show_18 (by decide) k2 k1) (fun c_18 => ?_) (fun c_18 => ?_)
    · refine rk_of (fun _ _ _ _ _ k => lr_aload_n hx hb dX3_show_21 rfl (lv_at hl 0 rfl) (lv_iload_n hx hb dX3_show_22 rfl (lv_at hl 2 rfl) k)) ?_
      refine rk_callI hX (cl_S (rest := [va_rf a0]) C (ct_X3_isHour H a2) (lw_S q2918 q2919 q112 q2920) hd_X3_isHour ⟨(Nat.le_of_ble_eq_true rfl), (Nat.le_of_ble_eq_true rfl)⟩ rfl hl.1 rfl (zw_le (zw_R zw_nil) (Nat.le_of_ble_eq_true rfl)) dX3_show_23) (fun v23 => ?_)
      refine rk_join (β := Int32) (fun (b34 : Int32) ls => lv_has ls 5 [(0, va_rf a0), (1, .int a1), (2, .int a2)]) (fun (b34 : Int32) ls => F0 m 34 ls [.int b34, va_rf a0]) (fun b34 ls hl => ?_) (fun hJ34 => ?_)
      · refine rk_of (fun _ _ _ _ _ k => lv_iconst (v := 2) hx hb dX3_show_34 rfl k) ?_
        refine rk_callI hX (cl_V (rest := []) (av := [.int b34, .int 2]) C (hc_X3 H) (ct_X3_isThrown H a0 b34 2) (lw_V q2665 q2667 qs46 q112 q2668) ⟨rfl, hd_X3_isThrown⟩ ⟨(Nat.le_of_ble_eq_true rfl), (Nat.le_of_ble_eq_true rfl)⟩ rfl hl.1 rfl (zw_le zw_nil (Nat.le_of_ble_eq_true rfl)) dX3_show_35) (fun v35 => ?_)
        refine rk_ite (fun _ _ _ _ _ k1 k2 => lv_if_eq (tgt := 43) hx hb dX3_show_38 (by decide) k1 k2) (fun c_38 => ?_) (fun c_38 => ?_)
        · refine rk_of (fun _ _ _ _ _ k => lr_aload_n hx hb dX3_show_43 rfl (lv_at hl 0 rfl) (lv_iconst (v := 0) hx hb dX3_show_44 rfl k)) ?_
          refine rk_put C H.2.2.1 (hc_X3 H) (k := 16) (Nat.le_of_ble_eq_true rfl) in_X3 (ty0 := tyX3) tyX3_ok nmX3 q2593 (fun _ h => h) (Or.inl rfl) rfl rfl dX3_show_45 ?_
          refine rk_ofs (fun _ _ _ _ _ k => lv_bipush (v := 60) hx hb dX3_show_48 rfl (lv_iload_n hx hb dX3_show_50 rfl (lv_at hl 2 rfl) (lv_imul hx hb dX3_show_51 (lr_istore_n hx hb dX3_show_52 rfl hl (Nat.le_of_ble_eq_true rfl) [0, 1, 2] rfl ⟨trivial, ⟨trivial, ⟨rfl, trivial⟩⟩⟩ k)))) (fun ls hl => ?_)
          refine rk_join (β := Unit) (fun (b108 : Unit) ls => lv_has ls 5 [(0, va_rf a0)]) (fun (b108 : Unit) ls => F0 m 108 ls []) (fun b108 ls hl => ?_) (fun hJ108 => ?_)
          · refine rk_of (fun _ _ _ _ _ k => lr_aload_n hx hb dX3_show_108 rfl (lv_at hl 0 rfl) k) ?_
            refine rk_get zm_rdI_eq C (hc_X3 H) (k := 16) (Nat.le_of_ble_eq_true rfl) in_X3 q2593 (fun _ h => h) dX3_show_109 (fun v109 => ?_)
            exact rk_top (rf_iret C rfl dX3_show_112)
          · exact rf_X3_show_53 H C hX a0 a1 a2 zm_N (60 * a2) _ ls (lv_sub hl [1, 2, 3, 0] rfl) hJ108
        · refine rk_of (fun _ _ _ _ _ k => lv_iconst (v := 0) hx hb dX3_show_41 rfl k) ?_
          exact rk_top (rf_iret C rfl dX3_show_42)
      · refine rk_ite (fun _ _ _ _ _ k1 k2 => lv_if_ne (tgt := 33) hx hb dX3_show_26 (by decide) k2 k1) (fun c_26 => ?_) (fun c_26 => ?_)
        · refine rk_of (fun _ _ _ _ _ k => lv_iconst (v := 1) hx hb dX3_show_29 rfl (lv_goto (tgt := 34) hx hb dX3_show_30 (by decide) k)) ?_
          exact hJ34 1 ls (lv_sub hl [0, 1, 2] rfl)
        · refine rk_of (fun _ _ _ _ _ k => lv_iconst (v := 0) hx hb dX3_show_33 rfl k) ?_
          exact hJ34 0 ls (lv_sub hl [0, 1, 2] rfl)
    · refine rk_of (fun _ _ _ _ _ k => lv_iconst (v := 0) hx hb dX3_show_41 rfl k) ?_
      exact rk_top (rf_iret C rfl dX3_show_42)
  · refine rk_ite (fun _ _ _ _ _ k1 k2 => lv_if_ne (tgt := 13) hx hb dX3_show_6 (by decide) k2 k1) (fun c_6 => ?_) (fun c_6 => ?_)
    · refine rk_of (fun _ _ _ _ _ k => lv_iconst (v := 1) hx hb dX3_show_9 rfl (lv_goto (tgt := 14) hx hb dX3_show_10 (by decide) k)) ?_
      exact hJ14 1 ls (lv_sub hl [0, 1, 2] rfl)
    · refine rk_of (fun _ _ _ _ _ k => lv_iconst (v := 0) hx hb dX3_show_13 rfl k) ?_
      exact hJ14 0 ls (lv_sub hl [0, 1, 2] rfl)
theorem hd_X3_span : yX3_span.cls ≠ "java/lang/invoke/MethodHandle" ∧ yX3_span.cls ≠ "java/lang/invoke/VarHandle" ∧ (parseMethodDescriptor yX3_span.desc).map (fun d => d.parameters.length) = some 3 := by decide +kernel
noncomputable def fn_X3_span (K : zm_K) (a0 : zm_R) (a1 : Int32) (a2 : Int32) (a3 : Int32) : zm_M Int32 :=
  zm_bnd (zm_bnd (zm_is a0 20) fun _ => fn_X3_endOf K a0 a1 1 a2 a3) fun v5 =>
  zm_ret v5
theorem ct_X3_span {l : Launch} {Ω : zm_W} {K : zm_K} (H : zm_H Ω K) (a0 : zm_R) (a1 : Int32) (a2 : Int32) (a3 : Int32) : zm_Ct l Ω yX3_span (ws_ yX3_span cX3_span 4 (Option.some Jvm.ClassFile.FieldType.int)) 9 250 [va_rf a0, .int a1, .int a2, .int a3] zm_tvI (fn_X3_span K a0 a1 a2 a3) := by
  refine zm_ct H.1 (by decide +kernel) (zl_le (zl_R (zl_I (zl_I (zl_I zl_nil)))) (Nat.le_of_ble_eq_true rfl)) ?_
  intro p e R s m args below meth c n0 k0 C hX ls hl
  have hx := C.1
  have hb := C.2.1
  simp only [zg_I, zg_R, zg_nil] at hl
  have hl : lv_has ls 4 [(0, va_rf a0), (1, .int a1), (2, .int a2), (3, .int a3)] := hl
  refine rk_rf ?_
  unfold fn_X3_span
  refine rk_of (fun _ _ _ _ _ k => lr_aload_n hx hb dX3_span_0 rfl (lv_at hl 0 rfl) (lv_iload_n hx hb dX3_span_1 rfl (lv_at hl 1 rfl) (lv_iconst (v := 1) hx hb dX3_span_2 rfl (lv_iload_n hx hb dX3_span_3 rfl (lv_at hl 2 rfl) (lv_iload_n hx hb dX3_span_4 rfl (lv_at hl 3 rfl) k))))) ?_
  refine rk_callI hX (cl_V (rest := []) (av := [.int a1, .int 1, .int a2, .int a3]) C (hc_X3 H) (ct_X3_endOf H a0 a1 1 a2 a3) (lw_V q2898 q2900 qs81 q112 q2901) ⟨rfl, hd_X3_endOf⟩ ⟨(Nat.le_of_ble_eq_true rfl), (Nat.le_of_ble_eq_true rfl)⟩ rfl hl.1 rfl (zw_le zw_nil (Nat.le_of_ble_eq_true rfl)) dX3_span_5) (fun v5 => ?_)
  exact rk_top (rf_iret C rfl dX3_span_8)
theorem hd_X3_split : yX3_split.cls ≠ "java/lang/invoke/MethodHandle" ∧ yX3_split.cls ≠ "java/lang/invoke/VarHandle" ∧ (parseMethodDescriptor yX3_split.desc).map (fun d => d.parameters.length) = some 2 := by decide +kernel
noncomputable def fn_X3_split (K : zm_K) (a0 : zm_R) (a1 : Int32) (a2 : Int32) : zm_M Int32 :=
  zm_bnd (zm_bnd (zm_is a0 20) fun _ => fn_X3_keeps K a0) fun _ =>
  zm_bnd (zm_bnd (zm_is a0 20) fun _ => fn_X3_isLetting K a0 a1) fun v7 =>
  zm_bnd (α := Int32) (
      if v7 = 0 then
        zm_ret 1
      else
        zm_ret 0
    ) fun b18 =>
  zm_bnd (zm_bnd (zm_is a0 20) fun _ => fn_X3_isThrown K a0 b18 1) fun v19 =>
  if v19 = 0 then
    zm_bnd (zm_bnd (zm_is a0 20) fun _ => fn_X3_splits K a0 a1 a2) fun v31 =>
    zm_bnd (zm_bnd (zm_is a0 20) fun _ => fn_X3_ends K a0 v31 2) fun v35 =>
    zm_ret v35
  else
    zm_ret 0
theorem ct_X3_split {l : Launch} {Ω : zm_W} {K : zm_K} (H : zm_H Ω K) (a0 : zm_R) (a1 : Int32) (a2 : Int32) : zm_Ct l Ω yX3_split (ws_ yX3_split cX3_split 3 (Option.some Jvm.ClassFile.FieldType.int)) 6 173 [va_rf a0, .int a1, .int a2] zm_tvI (fn_X3_split K a0 a1 a2) := by
  refine zm_ct H.1 (by decide +kernel) (zl_le (zl_R (zl_I (zl_I zl_nil))) (Nat.le_of_ble_eq_true rfl)) ?_
  intro p e R s m args below meth c n0 k0 C hX ls hl
  have hx := C.1
  have hb := C.2.1
  simp only [zg_I, zg_R, zg_nil] at hl
  have hl : lv_has ls 3 [(0, va_rf a0), (1, .int a1), (2, .int a2)] := hl
  refine rk_rf ?_
  unfold fn_X3_split
  refine rk_of (fun _ _ _ _ _ k => lr_aload_n hx hb dX3_split_0 rfl (lv_at hl 0 rfl) k) ?_
  refine rk_callV hX (cl_V (rest := []) (av := []) C (hc_X3 H) (ct_X3_keeps H a0) (lw_V q2655 q2657 qs45 q112 q2658) ⟨rfl, hd_X3_keeps⟩ ⟨(Nat.le_of_ble_eq_true rfl), (Nat.le_of_ble_eq_true rfl)⟩ rfl hl.1 rfl (zw_le zw_nil (Nat.le_of_ble_eq_true rfl)) dX3_split_1) (fun _ => ?_)
  refine rk_of (fun _ _ _ _ _ k => lr_aload_n hx hb dX3_split_4 rfl (lv_at hl 0 rfl) (lr_aload_n hx hb dX3_split_5 rfl (lv_at hl 0 rfl) (lv_iload_n hx hb dX3_split_6 rfl (lv_at hl 1 rfl) k))) ?_
  refine rk_callI hX (cl_V (rest := [va_rf a0]) (av := [.int a1]) C (hc_X3 H) (ct_X3_isLetting H a0 a1) (lw_V q2722 q2724 qs56 q112 q2725) ⟨rfl, hd_X3_isLetting⟩ ⟨(Nat.le_of_ble_eq_true rfl), (Nat.le_of_ble_eq_true rfl)⟩ rfl hl.1 rfl (zw_le (zw_R zw_nil) (Nat.le_of_ble_eq_true rfl)) dX3_split_7) (fun v7 => ?_)
  refine rk_join (β := Int32) (fun (b18 : Int32) ls => lv_has ls 3 [(0, va_rf a0), (1, .int a1), (2, .int a2)]) (fun (b18 : Int32) ls => F0 m 18 ls [.int b18, va_rf a0]) (fun b18 ls hl => ?_) (fun hJ18 => ?_)
  · refine rk_of (fun _ _ _ _ _ k => lv_iconst (v := 1) hx hb dX3_split_18 rfl k) ?_
    refine rk_callI hX (cl_V (rest := []) (av := [.int b18, .int 1]) C (hc_X3 H) (ct_X3_isThrown H a0 b18 1) (lw_V q2665 q2667 qs46 q112 q2668) ⟨rfl, hd_X3_isThrown⟩ ⟨(Nat.le_of_ble_eq_true rfl), (Nat.le_of_ble_eq_true rfl)⟩ rfl hl.1 rfl (zw_le zw_nil (Nat.le_of_ble_eq_true rfl)) dX3_split_19) (fun v19 => ?_)
    refine rk_ite (fun _ _ _ _ _ k1 k2 => lv_if_eq (tgt := 27) hx hb dX3_split_22 (by decide) k1 k2) (fun c_22 => ?_) (fun c_22 => ?_)
    · refine rk_of (fun _ _ _ _ _ k => lr_aload_n hx hb dX3_split_27 rfl (lv_at hl 0 rfl) (lr_aload_n hx hb dX3_split_28 rfl (lv_at hl 0 rfl) (lv_iload_n hx hb dX3_split_29 rfl (lv_at hl 1 rfl) (lv_iload_n hx hb dX3_split_30 rfl (lv_at hl 2 rfl) k)))) ?_
      refine rk_callI hX (cl_V (rest := [va_rf a0]) (av := [.int a1, .int a2]) C (hc_X3 H) (ct_X3_splits H a0 a1 a2) (lw_V q2763 q2765 qs62 q112 q2766) ⟨rfl, hd_X3_splits⟩ ⟨(Nat.le_of_ble_eq_true rfl), (Nat.le_of_ble_eq_true rfl)⟩ rfl hl.1 rfl (zw_le (zw_R zw_nil) (Nat.le_of_ble_eq_true rfl)) dX3_split_31) (fun v31 => ?_)
      refine rk_of (fun _ _ _ _ _ k => lv_iconst (v := 2) hx hb dX3_split_34 rfl k) ?_
      refine rk_callI hX (cl_V (rest := []) (av := [.int v31, .int 2]) C (hc_X3 H) (ct_X3_ends H a0 v31 2) (lw_V q2673 q2675 qs48 q112 q2676) ⟨rfl, hd_X3_ends⟩ ⟨(Nat.le_of_ble_eq_true rfl), (Nat.le_of_ble_eq_true rfl)⟩ rfl hl.1 rfl (zw_le zw_nil (Nat.le_of_ble_eq_true rfl)) dX3_split_35) (fun v35 => ?_)
      exact rk_top (rf_iret C rfl dX3_split_38)
    · refine rk_of (fun _ _ _ _ _ k => lv_iconst (v := 0) hx hb dX3_split_25 rfl k) ?_
      exact rk_top (rf_iret C rfl dX3_split_26)
  · refine rk_ite (fun _ _ _ _ _ k1 k2 => lv_if_ne (tgt := 17) hx hb dX3_split_10 (by decide) k2 k1) (fun c_10 => ?_) (fun c_10 => ?_)
    · refine rk_of (fun _ _ _ _ _ k => lv_iconst (v := 1) hx hb dX3_split_13 rfl (lv_goto (tgt := 18) hx hb dX3_split_14 (by decide) k)) ?_
      exact hJ18 1 ls (lv_sub hl [0, 1, 2] rfl)
    · refine rk_of (fun _ _ _ _ _ k => lv_iconst (v := 0) hx hb dX3_split_17 rfl k) ?_
      exact hJ18 0 ls (lv_sub hl [0, 1, 2] rfl)
theorem hd_X3_thrown : yX3_thrown.cls ≠ "java/lang/invoke/MethodHandle" ∧ yX3_thrown.cls ≠ "java/lang/invoke/VarHandle" ∧ (parseMethodDescriptor yX3_thrown.desc).map (fun d => d.parameters.length) = some 0 := by decide +kernel
noncomputable def fn_X3_thrown (K : zm_K) (a0 : zm_R) : zm_M Int32 :=
  zm_bnd (zm_getI a0 20 5) fun v1 =>
  zm_ret v1
theorem ct_X3_thrown {l : Launch} {Ω : zm_W} {K : zm_K} (H : zm_H Ω K) (a0 : zm_R) : zm_Ct l Ω yX3_thrown (ws_ yX3_thrown cX3_thrown 1 (Option.some Jvm.ClassFile.FieldType.int)) 1 64 [va_rf a0] zm_tvI (fn_X3_thrown K a0) := by
  refine zm_ct H.1 (by decide +kernel) (zl_le (zl_R zl_nil) (Nat.le_of_ble_eq_true rfl)) ?_
  intro p e R s m args below meth c n0 k0 C hX ls hl
  have hx := C.1
  have hb := C.2.1
  simp only [zg_R, zg_nil] at hl
  have hl : lv_has ls 1 [(0, va_rf a0)] := hl
  refine rk_rf ?_
  unfold fn_X3_thrown
  refine rk_of (fun _ _ _ _ _ k => lr_aload_n hx hb dX3_thrown_0 rfl (lv_at hl 0 rfl) k) ?_
  refine rk_get zm_rdI_eq C (hc_X3 H) (k := 5) (Nat.le_of_ble_eq_true rfl) in_X3 q2582 (fun _ h => h) dX3_thrown_1 (fun v1 => ?_)
  exact rk_top (rf_iret C rfl dX3_thrown_4)
theorem hd_X3_type : yX3_type.cls ≠ "java/lang/invoke/MethodHandle" ∧ yX3_type.cls ≠ "java/lang/invoke/VarHandle" ∧ (parseMethodDescriptor yX3_type.desc).map (fun d => d.parameters.length) = some 1 := by decide +kernel
noncomputable def fn_X3_type (K : zm_K) (a0 : zm_R) (a1 : Int32) : zm_M Int32 :=
  zm_bnd (zm_getI a0 20 19) fun v2 =>
  zm_bnd (α := Int32) (
      if v2 = 60 then
        zm_ret 1
      else
        zm_ret 0
    ) fun b15 =>
  zm_bnd (zm_bnd (zm_is a0 20) fun _ => fn_X3_isThrown K a0 b15 1) fun v16 =>
  if v16 = 0 then
    zm_bnd (zm_getR a0 20 17) fun v25 =>
    zm_bnd (zm_getI a0 20 19) fun v29 =>
    zm_bnd (zm_astI K .int v25 v29 a1) fun _ =>
    zm_bnd (zm_getI a0 20 19) fun v36 =>
    zm_bnd (zm_putF K a0 20 19 (.int (v36 + 1))) fun _ =>
    zm_bnd (zm_getI a0 20 19) fun v45 =>
    zm_ret v45
  else
    zm_ret 0
theorem ct_X3_type {l : Launch} {Ω : zm_W} {K : zm_K} (H : zm_H Ω K) (a0 : zm_R) (a1 : Int32) : zm_Ct l Ω yX3_type (ws_ yX3_type cX3_type 2 (Option.some Jvm.ClassFile.FieldType.int)) 2 86 [va_rf a0, .int a1] zm_tvI (fn_X3_type K a0 a1) := by
  refine zm_ct H.1 (by decide +kernel) (zl_le (zl_R (zl_I zl_nil)) (Nat.le_of_ble_eq_true rfl)) ?_
  intro p e R s m args below meth c n0 k0 C hX ls hl
  have hx := C.1
  have hb := C.2.1
  simp only [zg_I, zg_R, zg_nil] at hl
  have hl : lv_has ls 2 [(0, va_rf a0), (1, .int a1)] := hl
  refine rk_rf ?_
  unfold fn_X3_type
  refine rk_of (fun _ _ _ _ _ k => lr_aload_n hx hb dX3_type_0 rfl (lv_at hl 0 rfl) (lr_aload_n hx hb dX3_type_1 rfl (lv_at hl 0 rfl) k)) ?_
  refine rk_get zm_rdI_eq C (hc_X3 H) (k := 19) (Nat.le_of_ble_eq_true rfl) in_X3 q2596 (fun _ h => h) dX3_type_2 (fun v2 => ?_)
  refine rk_of (fun _ _ _ _ _ k => lv_bipush (v := 60) hx hb dX3_type_5 rfl k) ?_
  refine rk_join (β := Int32) (fun (b15 : Int32) ls => lv_has ls 2 [(0, va_rf a0), (1, .int a1)]) (fun (b15 : Int32) ls => F0 m 15 ls [.int b15, va_rf a0]) (fun b15 ls hl => ?_) (fun hJ15 => ?_)
  · refine rk_of (fun _ _ _ _ _ k => lv_iconst (v := 1) hx hb dX3_type_15 rfl k) ?_
    refine rk_callI hX (cl_V (rest := []) (av := [.int b15, .int 1]) C (hc_X3 H) (ct_X3_isThrown H a0 b15 1) (lw_V q2665 q2667 qs46 q112 q2668) ⟨rfl, hd_X3_isThrown⟩ ⟨(Nat.le_of_ble_eq_true rfl), (Nat.le_of_ble_eq_true rfl)⟩ rfl hl.1 rfl (zw_le zw_nil (Nat.le_of_ble_eq_true rfl)) dX3_type_16) (fun v16 => ?_)
    refine rk_ite (fun _ _ _ _ _ k1 k2 => lv_if_eq (tgt := 24) hx hb dX3_type_19 (by decide) k1 k2) (fun c_19 => ?_) (fun c_19 => ?_)
    · refine rk_of (fun _ _ _ _ _ k => lr_aload_n hx hb dX3_type_24 rfl (lv_at hl 0 rfl) k) ?_
      refine rk_get zm_rdR_eq C (hc_X3 H) (k := 17) (Nat.le_of_ble_eq_true rfl) in_X3 q2594 (fun _ h => h) dX3_type_25 (fun v25 => ?_)
      refine rk_of (fun _ _ _ _ _ k => lr_aload_n hx hb dX3_type_28 rfl (lv_at hl 0 rfl) k) ?_
      refine rk_get zm_rdI_eq C (hc_X3 H) (k := 19) (Nat.le_of_ble_eq_true rfl) in_X3 q2596 (fun _ h => h) dX3_type_29 (fun v29 => ?_)
      refine rk_of (fun _ _ _ _ _ k => lv_iload_n hx hb dX3_type_32 rfl (lv_at hl 1 rfl) k) ?_
      refine rk_iast C H.2.2.1 dX3_type_33 ?_
      refine rk_of (fun _ _ _ _ _ k => lr_aload_n hx hb dX3_type_34 rfl (lv_at hl 0 rfl) (lv_dup hx hb dX3_type_35 (va_rf_cat _) k)) ?_
      refine rk_get zm_rdI_eq C (hc_X3 H) (k := 19) (Nat.le_of_ble_eq_true rfl) in_X3 q2596 (fun _ h => h) dX3_type_36 (fun v36 => ?_)
      refine rk_of (fun _ _ _ _ _ k => lv_iconst (v := 1) hx hb dX3_type_39 rfl (lv_iadd hx hb dX3_type_40 k)) ?_
      refine rk_put C H.2.2.1 (hc_X3 H) (k := 19) (Nat.le_of_ble_eq_true rfl) in_X3 (ty0 := tyX3) tyX3_ok nmX3 q2596 (fun _ h => h) (Or.inl rfl) rfl rfl dX3_type_41 ?_
      refine rk_of (fun _ _ _ _ _ k => lr_aload_n hx hb dX3_type_44 rfl (lv_at hl 0 rfl) k) ?_
      refine rk_get zm_rdI_eq C (hc_X3 H) (k := 19) (Nat.le_of_ble_eq_true rfl) in_X3 q2596 (fun _ h => h) dX3_type_45 (fun v45 => ?_)
      exact rk_top (rf_iret C rfl dX3_type_48)
    · refine rk_of (fun _ _ _ _ _ k => lv_iconst (v := 0) hx hb dX3_type_22 rfl k) ?_
      exact rk_top (rf_iret C rfl dX3_type_23)
  · refine rk_ite (fun _ _ _ _ _ k1 k2 => lv_icmp_ne (tgt := 14) hx hb dX3_type_7 (by decide) k2 k1) (fun c_7 => ?_) (fun c_7 => ?_)
    · refine rk_of (fun _ _ _ _ _ k => lv_iconst (v := 1) hx hb dX3_type_10 rfl (lv_goto (tgt := 15) hx hb dX3_type_11 (by decide) k)) ?_
      exact hJ15 1 ls (lv_sub hl [0, 1] rfl)
    · refine rk_of (fun _ _ _ _ _ k => lv_iconst (v := 0) hx hb dX3_type_14 rfl k) ?_
      exact hJ15 0 ls (lv_sub hl [0, 1] rfl)
theorem hd_X3_undo : yX3_undo.cls ≠ "java/lang/invoke/MethodHandle" ∧ yX3_undo.cls ≠ "java/lang/invoke/VarHandle" ∧ (parseMethodDescriptor yX3_undo.desc).map (fun d => d.parameters.length) = some 0 := by decide +kernel
noncomputable def fn_X3_undo (K : zm_K) (a0 : zm_R) : zm_M Int32 :=
  zm_bnd (zm_getI a0 20 4) fun v2 =>
  zm_bnd (α := Int32) (
      if v2 = 0 then
        zm_ret 1
      else
        zm_ret 0
    ) fun b13 =>
  zm_bnd (zm_bnd (zm_is a0 20) fun _ => fn_X3_isThrown K a0 b13 1) fun v14 =>
  if v14 = 0 then
    zm_bnd (zm_getI a0 20 4) fun v24 =>
    zm_bnd (zm_putF K a0 20 4 (.int (v24 - 1))) fun _ =>
    zm_bnd (zm_getR a0 20 3) fun v33 =>
    zm_bnd (zm_getI a0 20 4) fun v40 =>
    zm_bnd (zm_getR a0 20 0) fun v45 =>
    zm_bnd (fn_X3_copies K v33 (197 * v40) v45 0) fun _ =>
    zm_bnd (zm_getI a0 20 4) fun v53 =>
    zm_ret v53
  else
    zm_ret 0
theorem ct_X3_undo {l : Launch} {Ω : zm_W} {K : zm_K} (H : zm_H Ω K) (a0 : zm_R) : zm_Ct l Ω yX3_undo (ws_ yX3_undo cX3_undo 1 (Option.some Jvm.ClassFile.FieldType.int)) 2 88 [va_rf a0] zm_tvI (fn_X3_undo K a0) := by
  refine zm_ct H.1 (by decide +kernel) (zl_le (zl_R zl_nil) (Nat.le_of_ble_eq_true rfl)) ?_
  intro p e R s m args below meth c n0 k0 C hX ls hl
  have hx := C.1
  have hb := C.2.1
  simp only [zg_R, zg_nil] at hl
  have hl : lv_has ls 1 [(0, va_rf a0)] := hl
  refine rk_rf ?_
  unfold fn_X3_undo
  refine rk_of (fun _ _ _ _ _ k => lr_aload_n hx hb dX3_undo_0 rfl (lv_at hl 0 rfl) (lr_aload_n hx hb dX3_undo_1 rfl (lv_at hl 0 rfl) k)) ?_
  refine rk_get zm_rdI_eq C (hc_X3 H) (k := 4) (Nat.le_of_ble_eq_true rfl) in_X3 q2581 (fun _ h => h) dX3_undo_2 (fun v2 => ?_)
  refine rk_join (β := Int32) (fun (b13 : Int32) ls => lv_has ls 1 [(0, va_rf a0)]) (fun (b13 : Int32) ls => F0 m 13 ls [.int b13, va_rf a0]) (fun b13 ls hl => ?_) (fun hJ13 => ?_)
  · refine rk_of (fun _ _ _ _ _ k => lv_iconst (v := 1) hx hb dX3_undo_13 rfl k) ?_
    refine rk_callI hX (cl_V (rest := []) (av := [.int b13, .int 1]) C (hc_X3 H) (ct_X3_isThrown H a0 b13 1) (lw_V q2665 q2667 qs46 q112 q2668) ⟨rfl, hd_X3_isThrown⟩ ⟨(Nat.le_of_ble_eq_true rfl), (Nat.le_of_ble_eq_true rfl)⟩ rfl hl.1 rfl (zw_le zw_nil (Nat.le_of_ble_eq_true rfl)) dX3_undo_14) (fun v14 => ?_)
    refine rk_ite (fun _ _ _ _ _ k1 k2 => lv_if_eq (tgt := 22) hx hb dX3_undo_17 (by decide) k1 k2) (fun c_17 => ?_) (fun c_17 => ?_)
    · refine rk_of (fun _ _ _ _ _ k => lr_aload_n hx hb dX3_undo_22 rfl (lv_at hl 0 rfl) (lv_dup hx hb dX3_undo_23 (va_rf_cat _) k)) ?_
      refine rk_get zm_rdI_eq C (hc_X3 H) (k := 4) (Nat.le_of_ble_eq_true rfl) in_X3 q2581 (fun _ h => h) dX3_undo_24 (fun v24 => ?_)
      refine rk_of (fun _ _ _ _ _ k => lv_iconst (v := 1) hx hb dX3_undo_27 rfl (lv_isub hx hb dX3_undo_28 k)) ?_
      refine rk_put C H.2.2.1 (hc_X3 H) (k := 4) (Nat.le_of_ble_eq_true rfl) in_X3 (ty0 := tyX3) tyX3_ok nmX3 q2581 (fun _ h => h) (Or.inl rfl) rfl rfl dX3_undo_29 ?_
      refine rk_of (fun _ _ _ _ _ k => lr_aload_n hx hb dX3_undo_32 rfl (lv_at hl 0 rfl) k) ?_
      refine rk_get zm_rdR_eq C (hc_X3 H) (k := 3) (Nat.le_of_ble_eq_true rfl) in_X3 q2580 (fun _ h => h) dX3_undo_33 (fun v33 => ?_)
      refine rk_of (fun _ _ _ _ _ k => lv_sipush (v := 197) hx hb dX3_undo_36 rfl (lr_aload_n hx hb dX3_undo_39 rfl (lv_at hl 0 rfl) k)) ?_
      refine rk_get zm_rdI_eq C (hc_X3 H) (k := 4) (Nat.le_of_ble_eq_true rfl) in_X3 q2581 (fun _ h => h) dX3_undo_40 (fun v40 => ?_)
      refine rk_of (fun _ _ _ _ _ k => lv_imul hx hb dX3_undo_43 (lr_aload_n hx hb dX3_undo_44 rfl (lv_at hl 0 rfl) k)) ?_
      refine rk_get zm_rdR_eq C (hc_X3 H) (k := 0) (Nat.le_of_ble_eq_true rfl) in_X3 q2577 (fun _ h => h) dX3_undo_45 (fun v45 => ?_)
      refine rk_of (fun _ _ _ _ _ k => lv_iconst (v := 0) hx hb dX3_undo_48 rfl k) ?_
      refine rk_callV hX (cl_S (rest := []) C (ct_X3_copies H v33 (197 * v40) v45 0) (lw_S q2659 q2660 q112 q2661) hd_X3_copies ⟨(Nat.le_of_ble_eq_true rfl), (Nat.le_of_ble_eq_true rfl)⟩ rfl hl.1 rfl (zw_le zw_nil (Nat.le_of_ble_eq_true rfl)) dX3_undo_49) (fun _ => ?_)
      refine rk_of (fun _ _ _ _ _ k => lr_aload_n hx hb dX3_undo_52 rfl (lv_at hl 0 rfl) k) ?_
      refine rk_get zm_rdI_eq C (hc_X3 H) (k := 4) (Nat.le_of_ble_eq_true rfl) in_X3 q2581 (fun _ h => h) dX3_undo_53 (fun v53 => ?_)
      exact rk_top (rf_iret C rfl dX3_undo_56)
    · refine rk_of (fun _ _ _ _ _ k => lv_iconst (v := 0) hx hb dX3_undo_20 rfl k) ?_
      exact rk_top (rf_iret C rfl dX3_undo_21)
  · refine rk_ite (fun _ _ _ _ _ k1 k2 => lv_if_ne (tgt := 12) hx hb dX3_undo_5 (by decide) k2 k1) (fun c_5 => ?_) (fun c_5 => ?_)
    · refine rk_of (fun _ _ _ _ _ k => lv_iconst (v := 1) hx hb dX3_undo_8 rfl (lv_goto (tgt := 13) hx hb dX3_undo_9 (by decide) k)) ?_
      exact hJ13 1 ls (lv_sub hl [0] rfl)
    · refine rk_of (fun _ _ _ _ _ k => lv_iconst (v := 0) hx hb dX3_undo_12 rfl k) ?_
      exact hJ13 0 ls (lv_sub hl [0] rfl)
theorem hd_X3_wish : yX3_wish.cls ≠ "java/lang/invoke/MethodHandle" ∧ yX3_wish.cls ≠ "java/lang/invoke/VarHandle" ∧ (parseMethodDescriptor yX3_wish.desc).map (fun d => d.parameters.length) = some 3 := by decide +kernel
noncomputable def fn_X3_wish (K : zm_K) (a0 : zm_R) (a1 : Int32) (a2 : Int32) (a3 : Int32) : zm_M Int32 :=
  zm_bnd (zm_bnd (zm_is a0 20) fun _ => fn_X3_keeps K a0) fun _ =>
  zm_bnd (fn_X3_isFor K a1 a2 a3) fun v8 =>
  zm_bnd (α := Int32) (
      if v8 = 0 then
        zm_ret 1
      else
        zm_ret 0
    ) fun b19 =>
  zm_bnd (zm_bnd (zm_is a0 20) fun _ => fn_X3_isThrown K a0 b19 1) fun v20 =>
  if v20 = 0 then
    zm_bnd (zm_bnd (zm_is a0 20) fun _ => fn_X3_wishes K a0 a1 a2 a3) fun v33 =>
    zm_bnd (zm_bnd (zm_is a0 20) fun _ => fn_X3_ends K a0 v33 2) fun v37 =>
    zm_ret v37
  else
    zm_ret 0
theorem ct_X3_wish {l : Launch} {Ω : zm_W} {K : zm_K} (H : zm_H Ω K) (a0 : zm_R) (a1 : Int32) (a2 : Int32) (a3 : Int32) : zm_Ct l Ω yX3_wish (ws_ yX3_wish cX3_wish 4 (Option.some Jvm.ClassFile.FieldType.int)) 4 131 [va_rf a0, .int a1, .int a2, .int a3] zm_tvI (fn_X3_wish K a0 a1 a2 a3) := by
  refine zm_ct H.1 (by decide +kernel) (zl_le (zl_R (zl_I (zl_I (zl_I zl_nil)))) (Nat.le_of_ble_eq_true rfl)) ?_
  intro p e R s m args below meth c n0 k0 C hX ls hl
  have hx := C.1
  have hb := C.2.1
  simp only [zg_I, zg_R, zg_nil] at hl
  have hl : lv_has ls 4 [(0, va_rf a0), (1, .int a1), (2, .int a2), (3, .int a3)] := hl
  refine rk_rf ?_
  unfold fn_X3_wish
  refine rk_of (fun _ _ _ _ _ k => lr_aload_n hx hb dX3_wish_0 rfl (lv_at hl 0 rfl) k) ?_
  refine rk_callV hX (cl_V (rest := []) (av := []) C (hc_X3 H) (ct_X3_keeps H a0) (lw_V q2655 q2657 qs45 q112 q2658) ⟨rfl, hd_X3_keeps⟩ ⟨(Nat.le_of_ble_eq_true rfl), (Nat.le_of_ble_eq_true rfl)⟩ rfl hl.1 rfl (zw_le zw_nil (Nat.le_of_ble_eq_true rfl)) dX3_wish_1) (fun _ => ?_)
  refine rk_of (fun _ _ _ _ _ k => lr_aload_n hx hb dX3_wish_4 rfl (lv_at hl 0 rfl) (lv_iload_n hx hb dX3_wish_5 rfl (lv_at hl 1 rfl) (lv_iload_n hx hb dX3_wish_6 rfl (lv_at hl 2 rfl) (lv_iload_n hx hb dX3_wish_7 rfl (lv_at hl 3 rfl) k)))) ?_
  refine rk_callI hX (cl_S (rest := [va_rf a0]) C (ct_X3_isFor H a1 a2 a3) (lw_S q2689 q2690 q112 q2691) hd_X3_isFor ⟨(Nat.le_of_ble_eq_true rfl), (Nat.le_of_ble_eq_true rfl)⟩ rfl hl.1 rfl (zw_le (zw_R zw_nil) (Nat.le_of_ble_eq_true rfl)) dX3_wish_8) (fun v8 => ?_)
  refine rk_join (β := Int32) (fun (b19 : Int32) ls => lv_has ls 4 [(0, va_rf a0), (1, .int a1), (2, .int a2), (3, .int a3)]) (fun (b19 : Int32) ls => F0 m 19 ls [.int b19, va_rf a0]) (fun b19 ls hl => ?_) (fun hJ19 => ?_)
  · refine rk_of (fun _ _ _ _ _ k => lv_iconst (v := 1) hx hb dX3_wish_19 rfl k) ?_
    refine rk_callI hX (cl_V (rest := []) (av := [.int b19, .int 1]) C (hc_X3 H) (ct_X3_isThrown H a0 b19 1) (lw_V q2665 q2667 qs46 q112 q2668) ⟨rfl, hd_X3_isThrown⟩ ⟨(Nat.le_of_ble_eq_true rfl), (Nat.le_of_ble_eq_true rfl)⟩ rfl hl.1 rfl (zw_le zw_nil (Nat.le_of_ble_eq_true rfl)) dX3_wish_20) (fun v20 => ?_)
    refine rk_ite (fun _ _ _ _ _ k1 k2 => lv_if_eq (tgt := 28) hx hb dX3_wish_23 (by decide) k1 k2) (fun c_23 => ?_) (fun c_23 => ?_)
    · refine rk_of (fun _ _ _ _ _ k => lr_aload_n hx hb dX3_wish_28 rfl (lv_at hl 0 rfl) (lr_aload_n hx hb dX3_wish_29 rfl (lv_at hl 0 rfl) (lv_iload_n hx hb dX3_wish_30 rfl (lv_at hl 1 rfl) (lv_iload_n hx hb dX3_wish_31 rfl (lv_at hl 2 rfl) (lv_iload_n hx hb dX3_wish_32 rfl (lv_at hl 3 rfl) k))))) ?_
      refine rk_callI hX (cl_V (rest := [va_rf a0]) (av := [.int a1, .int a2, .int a3]) C (hc_X3 H) (ct_X3_wishes H a0 a1 a2 a3) (lw_V q2791 q2793 qs65 q112 q2794) ⟨rfl, hd_X3_wishes⟩ ⟨(Nat.le_of_ble_eq_true rfl), (Nat.le_of_ble_eq_true rfl)⟩ rfl hl.1 rfl (zw_le (zw_R zw_nil) (Nat.le_of_ble_eq_true rfl)) dX3_wish_33) (fun v33 => ?_)
      refine rk_of (fun _ _ _ _ _ k => lv_iconst (v := 2) hx hb dX3_wish_36 rfl k) ?_
      refine rk_callI hX (cl_V (rest := []) (av := [.int v33, .int 2]) C (hc_X3 H) (ct_X3_ends H a0 v33 2) (lw_V q2673 q2675 qs48 q112 q2676) ⟨rfl, hd_X3_ends⟩ ⟨(Nat.le_of_ble_eq_true rfl), (Nat.le_of_ble_eq_true rfl)⟩ rfl hl.1 rfl (zw_le zw_nil (Nat.le_of_ble_eq_true rfl)) dX3_wish_37) (fun v37 => ?_)
      exact rk_top (rf_iret C rfl dX3_wish_40)
    · refine rk_of (fun _ _ _ _ _ k => lv_iconst (v := 0) hx hb dX3_wish_26 rfl k) ?_
      exact rk_top (rf_iret C rfl dX3_wish_27)
  · refine rk_ite (fun _ _ _ _ _ k1 k2 => lv_if_ne (tgt := 18) hx hb dX3_wish_11 (by decide) k2 k1) (fun c_11 => ?_) (fun c_11 => ?_)
    · refine rk_of (fun _ _ _ _ _ k => lv_iconst (v := 1) hx hb dX3_wish_14 rfl (lv_goto (tgt := 19) hx hb dX3_wish_15 (by decide) k)) ?_
      exact hJ19 1 ls (lv_sub hl [0, 1, 2, 3] rfl)
    · refine rk_of (fun _ _ _ _ _ k => lv_iconst (v := 0) hx hb dX3_wish_18 rfl k) ?_
      exact hJ19 0 ls (lv_sub hl [0, 1, 2, 3] rfl)
theorem hd_X3_wishOf : yX3_wishOf.cls ≠ "java/lang/invoke/MethodHandle" ∧ yX3_wishOf.cls ≠ "java/lang/invoke/VarHandle" ∧ (parseMethodDescriptor yX3_wishOf.desc).map (fun d => d.parameters.length) = some 2 := by decide +kernel
noncomputable def fn_X3_wishOf (K : zm_K) (a0 : zm_R) (a1 : Int32) (a2 : Int32) : zm_M Int32 :=
  zm_bnd (zm_bnd (zm_is a0 20) fun _ => fn_X3_isWish K a0 a1) fun v3 =>
  zm_bnd (α := Int32) (
      if v3 = 0 then
        zm_ret 1
      else
        zm_ret 0
    ) fun b14 =>
  zm_bnd (zm_bnd (zm_is a0 20) fun _ => fn_X3_isThrown K a0 b14 1) fun v15 =>
  if v15 = 0 then
    zm_bnd (fn_X3_isIn K a2 0 2) fun v25 =>
    zm_bnd (α := Int32) (
        if v25 = 0 then
          zm_ret 1
        else
          zm_ret 0
      ) fun b36 =>
    zm_bnd (zm_bnd (zm_is a0 20) fun _ => fn_X3_isThrown K a0 b36 2) fun v37 =>
    if v37 = 0 then
      zm_bnd (zm_bnd (zm_is a0 20) fun _ => fn_X3_ofWish K a0 a1 a2) fun v48 =>
      zm_ret v48
    else
      zm_ret 0
  else
    zm_ret 0
theorem ct_X3_wishOf {l : Launch} {Ω : zm_W} {K : zm_K} (H : zm_H Ω K) (a0 : zm_R) (a1 : Int32) (a2 : Int32) : zm_Ct l Ω yX3_wishOf (ws_ yX3_wishOf cX3_wishOf 3 (Option.some Jvm.ClassFile.FieldType.int)) 3 107 [va_rf a0, .int a1, .int a2] zm_tvI (fn_X3_wishOf K a0 a1 a2) := by
  refine zm_ct H.1 (by decide +kernel) (zl_le (zl_R (zl_I (zl_I zl_nil))) (Nat.le_of_ble_eq_true rfl)) ?_
  intro p e R s m args below meth c n0 k0 C hX ls hl
  have hx := C.1
  have hb := C.2.1
  simp only [zg_I, zg_R, zg_nil] at hl
  have hl : lv_has ls 3 [(0, va_rf a0), (1, .int a1), (2, .int a2)] := hl
  refine rk_rf ?_
  unfold fn_X3_wishOf
  refine rk_of (fun _ _ _ _ _ k => lr_aload_n hx hb dX3_wishOf_0 rfl (lv_at hl 0 rfl) (lr_aload_n hx hb dX3_wishOf_1 rfl (lv_at hl 0 rfl) (lv_iload_n hx hb dX3_wishOf_2 rfl (lv_at hl 1 rfl) k))) ?_
  refine rk_callI hX (cl_V (rest := [va_rf a0]) (av := [.int a1]) C (hc_X3 H) (ct_X3_isWish H a0 a1) (lw_V q2802 q2804 qs66 q112 q2805) ⟨rfl, hd_X3_isWish⟩ ⟨(Nat.le_of_ble_eq_true rfl), (Nat.le_of_ble_eq_true rfl)⟩ rfl hl.1 rfl (zw_le (zw_R zw_nil) (Nat.le_of_ble_eq_true rfl)) dX3_wishOf_3) (fun v3 => ?_)
  refine rk_join (β := Int32) (fun (b14 : Int32) ls => lv_has ls 3 [(0, va_rf a0), (1, .int a1), (2, .int a2)]) (fun (b14 : Int32) ls => F0 m 14 ls [.int b14, va_rf a0]) (fun b14 ls hl => ?_) (fun hJ14 => ?_)
  · refine rk_of (fun _ _ _ _ _ k => lv_iconst (v := 1) hx hb dX3_wishOf_14 rfl k) ?_
    refine rk_callI hX (cl_V (rest := []) (av := [.int b14, .int 1]) C (hc_X3 H) (ct_X3_isThrown H a0 b14 1) (lw_V q2665 q2667 qs46 q112 q2668) ⟨rfl, hd_X3_isThrown⟩ ⟨(Nat.le_of_ble_eq_true rfl), (Nat.le_of_ble_eq_true rfl)⟩ rfl hl.1 rfl (zw_le zw_nil (Nat.le_of_ble_eq_true rfl)) dX3_wishOf_15) (fun v15 => ?_)
    refine rk_ite (fun _ _ _ _ _ k1 k2 => lv_if_ne (tgt := 43) hx hb dX3_wishOf_18 (by decide) k2 k1) (fun c_18 => ?_) (fun c_18 => ?_)
    · refine rk_of (fun _ _ _ _ _ k => lr_aload_n hx hb dX3_wishOf_21 rfl (lv_at hl 0 rfl) (lv_iload_n hx hb dX3_wishOf_22 rfl (lv_at hl 2 rfl) (lv_iconst (v := 0) hx hb dX3_wishOf_23 rfl (lv_iconst (v := 2) hx hb dX3_wishOf_24 rfl k)))) ?_
      refine rk_callI hX (cl_S (rest := [va_rf a0]) C (ct_X3_isIn H a2 0 2) (lw_S q2662 q2663 q112 q2664) hd_X3_isIn ⟨(Nat.le_of_ble_eq_true rfl), (Nat.le_of_ble_eq_true rfl)⟩ rfl hl.1 rfl (zw_le (zw_R zw_nil) (Nat.le_of_ble_eq_true rfl)) dX3_wishOf_25) (fun v25 => ?_)
      refine rk_join (β := Int32) (fun (b36 : Int32) ls => lv_has ls 3 [(0, va_rf a0), (1, .int a1), (2, .int a2)]) (fun (b36 : Int32) ls => F0 m 36 ls [.int b36, va_rf a0]) (fun b36 ls hl => ?_) (fun hJ36 => ?_)
      · refine rk_of (fun _ _ _ _ _ k => lv_iconst (v := 2) hx hb dX3_wishOf_36 rfl k) ?_
        refine rk_callI hX (cl_V (rest := []) (av := [.int b36, .int 2]) C (hc_X3 H) (ct_X3_isThrown H a0 b36 2) (lw_V q2665 q2667 qs46 q112 q2668) ⟨rfl, hd_X3_isThrown⟩ ⟨(Nat.le_of_ble_eq_true rfl), (Nat.le_of_ble_eq_true rfl)⟩ rfl hl.1 rfl (zw_le zw_nil (Nat.le_of_ble_eq_true rfl)) dX3_wishOf_37) (fun v37 => ?_)
        refine rk_ite (fun _ _ _ _ _ k1 k2 => lv_if_eq (tgt := 45) hx hb dX3_wishOf_40 (by decide) k1 k2) (fun c_40 => ?_) (fun c_40 => ?_)
        · refine rk_of (fun _ _ _ _ _ k => lr_aload_n hx hb dX3_wishOf_45 rfl (lv_at hl 0 rfl) (lv_iload_n hx hb dX3_wishOf_46 rfl (lv_at hl 1 rfl) (lv_iload_n hx hb dX3_wishOf_47 rfl (lv_at hl 2 rfl) k))) ?_
          refine rk_callI hX (cl_V (rest := []) (av := [.int a1, .int a2]) C (hc_X3 H) (ct_X3_ofWish H a0 a1 a2) (lw_V q2814 q2816 qs68 q112 q2817) ⟨rfl, hd_X3_ofWish⟩ ⟨(Nat.le_of_ble_eq_true rfl), (Nat.le_of_ble_eq_true rfl)⟩ rfl hl.1 rfl (zw_le zw_nil (Nat.le_of_ble_eq_true rfl)) dX3_wishOf_48) (fun v48 => ?_)
          exact rk_top (rf_iret C rfl dX3_wishOf_51)
        · refine rk_of (fun _ _ _ _ _ k => lv_iconst (v := 0) hx hb dX3_wishOf_43 rfl k) ?_
          exact rk_top (rf_iret C rfl dX3_wishOf_44)
      · refine rk_ite (fun _ _ _ _ _ k1 k2 => lv_if_ne (tgt := 35) hx hb dX3_wishOf_28 (by decide) k2 k1) (fun c_28 => ?_) (fun c_28 => ?_)
        · refine rk_of (fun _ _ _ _ _ k => lv_iconst (v := 1) hx hb dX3_wishOf_31 rfl (lv_goto (tgt := 36) hx hb dX3_wishOf_32 (by decide) k)) ?_
          exact hJ36 1 ls (lv_sub hl [0, 1, 2] rfl)
        · refine rk_of (fun _ _ _ _ _ k => lv_iconst (v := 0) hx hb dX3_wishOf_35 rfl k) ?_
          exact hJ36 0 ls (lv_sub hl [0, 1, 2] rfl)
    · refine rk_of (fun _ _ _ _ _ k => lv_iconst (v := 0) hx hb dX3_wishOf_43 rfl k) ?_
      exact rk_top (rf_iret C rfl dX3_wishOf_44)
  · refine rk_ite (fun _ _ _ _ _ k1 k2 => lv_if_ne (tgt := 13) hx hb dX3_wishOf_6 (by decide) k2 k1) (fun c_6 => ?_) (fun c_6 => ?_)
    · refine rk_of (fun _ _ _ _ _ k => lv_iconst (v := 1) hx hb dX3_wishOf_9 rfl (lv_goto (tgt := 14) hx hb dX3_wishOf_10 (by decide) k)) ?_
      exact hJ14 1 ls (lv_sub hl [0, 1, 2] rfl)
    · refine rk_of (fun _ _ _ _ _ k => lv_iconst (v := 0) hx hb dX3_wishOf_13 rfl k) ?_
      exact hJ14 0 ls (lv_sub hl [0, 1, 2] rfl)
theorem hd_X3_written : yX3_written.cls ≠ "java/lang/invoke/MethodHandle" ∧ yX3_written.cls ≠ "java/lang/invoke/VarHandle" ∧ (parseMethodDescriptor yX3_written.desc).map (fun d => d.parameters.length) = some 1 := by decide +kernel
noncomputable def fn_X3_written (K : zm_K) (a0 : zm_R) (a1 : Int32) : zm_M Int32 :=
  zm_bnd (zm_getI a0 20 16) fun v4 =>
  zm_bnd (fn_X3_isIn K a1 0 (v4 - 1)) fun v9 =>
  zm_bnd (α := Int32) (
      if v9 = 0 then
        zm_ret 1
      else
        zm_ret 0
    ) fun b20 =>
  zm_bnd (zm_bnd (zm_is a0 20) fun _ => fn_X3_isThrown K a0 b20 1) fun v21 =>
  if v21 = 0 then
    zm_bnd (zm_getR a0 20 15) fun v32 =>
    zm_bnd (zm_aldI .int v32 a1) fun v36 =>
    zm_bnd (zm_grd (0 ≤ (((v36).toUInt32 % 65536).toInt32) ∧ (((v36).toUInt32 % 65536).toInt32) ≤ 65535)) fun _ =>
    zm_ret (((v36).toUInt32 % 65536).toInt32)
  else
    zm_ret 0
theorem ct_X3_written {l : Launch} {Ω : zm_W} {K : zm_K} (H : zm_H Ω K) (a0 : zm_R) (a1 : Int32) : zm_Ct l Ω yX3_written (ws_ yX3_written cX3_written 2 (Option.some Jvm.ClassFile.FieldType.char)) 2 86 [va_rf a0, .int a1] zm_tvI (fn_X3_written K a0 a1) := by
  refine zm_ct H.1 (by decide +kernel) (zl_le (zl_R (zl_I zl_nil)) (Nat.le_of_ble_eq_true rfl)) ?_
  intro p e R s m args below meth c n0 k0 C hX ls hl
  have hx := C.1
  have hb := C.2.1
  simp only [zg_I, zg_R, zg_nil] at hl
  have hl : lv_has ls 2 [(0, va_rf a0), (1, .int a1)] := hl
  refine rk_rf ?_
  unfold fn_X3_written
  refine rk_of (fun _ _ _ _ _ k => lr_aload_n hx hb dX3_written_0 rfl (lv_at hl 0 rfl) (lv_iload_n hx hb dX3_written_1 rfl (lv_at hl 1 rfl) (lv_iconst (v := 0) hx hb dX3_written_2 rfl (lr_aload_n hx hb dX3_written_3 rfl (lv_at hl 0 rfl) k)))) ?_
  refine rk_get zm_rdI_eq C (hc_X3 H) (k := 16) (Nat.le_of_ble_eq_true rfl) in_X3 q2593 (fun _ h => h) dX3_written_4 (fun v4 => ?_)
  refine rk_of (fun _ _ _ _ _ k => lv_iconst (v := 1) hx hb dX3_written_7 rfl (lv_isub hx hb dX3_written_8 k)) ?_
  refine rk_callI hX (cl_S (rest := [va_rf a0]) C (ct_X3_isIn H a1 0 (v4 - 1)) (lw_S q2662 q2663 q112 q2664) hd_X3_isIn ⟨(Nat.le_of_ble_eq_true rfl), (Nat.le_of_ble_eq_true rfl)⟩ rfl hl.1 rfl (zw_le (zw_R zw_nil) (Nat.le_of_ble_eq_true rfl)) dX3_written_9) (fun v9 => ?_)
  refine rk_join (β := Int32) (fun (b20 : Int32) ls => lv_has ls 2 [(0, va_rf a0), (1, .int a1)]) (fun (b20 : Int32) ls => F0 m 20 ls [.int b20, va_rf a0]) (fun b20 ls hl => ?_) (fun hJ20 => ?_)
  · refine rk_of (fun _ _ _ _ _ k => lv_iconst (v := 1) hx hb dX3_written_20 rfl k) ?_
    refine rk_callI hX (cl_V (rest := []) (av := [.int b20, .int 1]) C (hc_X3 H) (ct_X3_isThrown H a0 b20 1) (lw_V q2665 q2667 qs46 q112 q2668) ⟨rfl, hd_X3_isThrown⟩ ⟨(Nat.le_of_ble_eq_true rfl), (Nat.le_of_ble_eq_true rfl)⟩ rfl hl.1 rfl (zw_le zw_nil (Nat.le_of_ble_eq_true rfl)) dX3_written_21) (fun v21 => ?_)
    refine rk_ite (fun _ _ _ _ _ k1 k2 => lv_if_eq (tgt := 31) hx hb dX3_written_24 (by decide) k1 k2) (fun c_24 => ?_) (fun c_24 => ?_)
    · refine rk_of (fun _ _ _ _ _ k => lr_aload_n hx hb dX3_written_31 rfl (lv_at hl 0 rfl) k) ?_
      refine rk_get zm_rdR_eq C (hc_X3 H) (k := 15) (Nat.le_of_ble_eq_true rfl) in_X3 q2592 (fun _ h => h) dX3_written_32 (fun v32 => ?_)
      refine rk_of (fun _ _ _ _ _ k => lv_iload_n hx hb dX3_written_35 rfl (lv_at hl 1 rfl) k) ?_
      refine rk_iald C dX3_written_36 (fun v36 => ?_)
      refine rk_of (fun _ _ _ _ _ k => lv_i2c hx hb dX3_written_37 rfl k) ?_
      refine rk_grd (fun hg_38 => ?_)
      exact rk_top (rf_iret C (zn_C hg_38) dX3_written_38)
    · refine rk_of (fun _ _ _ _ _ k => lv_iconst (v := 0) hx hb dX3_written_27 rfl (lv_goto (tgt := 38) hx hb dX3_written_28 (by decide) k)) ?_
      exact rk_top (rf_iret C rfl dX3_written_38)
  · refine rk_ite (fun _ _ _ _ _ k1 k2 => lv_if_ne (tgt := 19) hx hb dX3_written_12 (by decide) k2 k1) (fun c_12 => ?_) (fun c_12 => ?_)
    · refine rk_of (fun _ _ _ _ _ k => lv_iconst (v := 1) hx hb dX3_written_15 rfl (lv_goto (tgt := 20) hx hb dX3_written_16 (by decide) k)) ?_
      exact hJ20 1 ls (lv_sub hl [0, 1] rfl)
    · refine rk_of (fun _ _ _ _ _ k => lv_iconst (v := 0) hx hb dX3_written_19 rfl k) ?_
      exact hJ20 0 ls (lv_sub hl [0, 1] rfl)
end
