/-! what the law reaches, 6 -/
section
variable {p : Program} {l : Launch} {e : Env} {R : Room} {s : State} {m : MethodId} {args : Array Value} {below : List Frame} {meth : Method} {c : Code} {Ω : zm_W} {K : zm_K} {n0 k0 : Nat}
theorem hd_X0_account : yX0_account.cls ≠ "java/lang/invoke/MethodHandle" ∧ yX0_account.cls ≠ "java/lang/invoke/VarHandle" ∧ (parseMethodDescriptor yX0_account.desc).map (fun d => d.parameters.length) = some 3 := by decide +kernel
noncomputable def fn_X0_account (K : zm_K) (a0 : zm_R) (a1 : Int32) (a2 : zm_R) : zm_M Int32 :=
  zm_cth (zm_bnd (zm_is a0 18) fun _ => fn_X1_account K a0 a1) (fun (E4 : String) (q4 : Nat) =>
      if E4 ∈ (["java/lang/IllegalArgumentException"] : List String) then
        zm_ret 1
      else
        if E4 ∈ (["java/lang/IndexOutOfBoundsException", "java/util/NoSuchElementException", "java/lang/UnsupportedOperationException", "java/lang/ArrayIndexOutOfBoundsException", "java/lang/IllegalStateException", "java/lang/StringIndexOutOfBoundsException", "java/lang/ArithmeticException", "BoxSpans$Refusal", "BoxSpans$TextError"] : List String) then
          zm_thr E4 q4
        else
          zm_fl
    ) fun v4 =>
  zm_bnd (zm_astJ K a2 0 ((v4).toInt64)) fun _ =>
  zm_ret 0
theorem ct_X0_account {l : Launch} {Ω : zm_W} {K : zm_K} (H : zm_H Ω K) (a0 : zm_R) (a1 : Int32) (a2 : zm_R) : zm_Ct l Ω yX0_account (wsW_ yX0_account cX0_account 4 (Option.some Jvm.ClassFile.FieldType.int) [(0, 9, 12, 13)]) 20 485 [va_rf a0, .int a1, va_rf a2] zm_tvI (fn_X0_account K a0 a1 a2) := by
  refine zm_ctW H.1 (by decide +kernel) (zl_le (zl_R (zl_I (zl_R zl_nil))) (Nat.le_of_ble_eq_true rfl)) ?_
  intro p e R s m args below meth c n0 k0 C hN hT ls hl
  have hx := C.1
  have hb := C.2.1
  simp only [zg_I, zg_R, zg_nil] at hl
  have hl : lv_has ls 4 [(0, va_rf a0), (1, .int a1), (2, va_rf a2)] := hl
  refine rk_rf ?_
  unfold fn_X0_account
  refine rk_of (fun _ _ _ _ _ k => lr_aload_n hx hb dX0_account_0 rfl (lv_at hl 2 rfl) (lv_iconst (v := 0) hx hb dX0_account_1 rfl (lr_aload_n hx hb dX0_account_2 rfl (lv_at hl 0 rfl) (lv_iload_n hx hb dX0_account_3 rfl (lv_at hl 1 rfl) k)))) ?_
  refine rk_cthI (cl_V (rest := [.int 0, va_rf a2]) (av := [.int a1]) C (hc_X1 H) (ct_X1_account H a0 a1) (lw_V q2491 q2492 q2493 q101 q2494) ⟨rfl, hd_X1_account⟩ ⟨(Nat.le_of_ble_eq_true rfl), (Nat.le_of_ble_eq_true rfl)⟩ rfl hl.1 rfl (zw_le (zw_I (zw_R zw_nil)) (Nat.le_of_ble_eq_true rfl)) dX0_account_4) (fun E4 q4 => ?_) (fun v4 => ?_)
  · refine rx_ite (fun h4_0 => ?_) (fun h4_0 => ?_)
    · refine rx_cat (k := 0) C hT rfl zp_nil ⟨by decide, by decide⟩ (by decide) q1126 ((zp_cons (P := fun E => (Cond.castable E "java/lang/IllegalArgumentException").before args s = true) (zn_wC H C q597) zp_nil) E4 h4_0) ?_
      refine rk_ofs (fun _ _ _ _ _ k => lr_astore_n hx hb dX0_account_12 rfl hl (Nat.le_of_ble_eq_true rfl) [] rfl trivial k) (fun ls hl => ?_)
      refine rk_of (fun _ _ _ _ _ k => lv_iconst (v := 1) hx hb dX0_account_13 rfl k) ?_
      exact rk_top (rf_iret C rfl dX0_account_14)
    · refine rx_ite (fun h4_x => ?_) (fun _ => rx_fl)
      exact rx_out C hT (zp_cons (Or.inr ⟨by decide, _, q1126, zh_ncs H C (L := ["java/lang/IndexOutOfBoundsException", "java/util/NoSuchElementException", "java/lang/UnsupportedOperationException", "java/lang/ArrayIndexOutOfBoundsException", "java/lang/IllegalStateException", "java/lang/StringIndexOutOfBoundsException", "java/lang/ArithmeticException", "BoxSpans$Refusal", "BoxSpans$TextError"]) (by decide) h4_x⟩) zp_nil)
  refine rk_of (fun _ _ _ _ _ k => lv_i2l hx hb dX0_account_7 rfl k) ?_
  refine rk_last C H.2.2.1 dX0_account_8 ?_
  refine rk_of (fun _ _ _ _ _ k => lv_goto (tgt := 15) hx hb dX0_account_9 (by decide) (lv_iconst (v := 0) hx hb dX0_account_15 rfl k)) ?_
  exact rk_top (rf_iret C rfl dX0_account_16)
theorem hd_X2_isOnce : yX2_isOnce.cls ≠ "java/lang/invoke/MethodHandle" ∧ yX2_isOnce.cls ≠ "java/lang/invoke/VarHandle" ∧ (parseMethodDescriptor yX2_isOnce.desc).map (fun d => d.parameters.length) = some 0 := by decide +kernel
noncomputable def fn_X2_isOnce_27 (K : zm_K) (p0 : zm_R) (p1 : Int32) (p2 : Int32) (p3 : Int32) : Nat → Int32 → Int32 → zm_M (Int32)
  | 0, _, _ => zm_fl
  | n + 1, x4, x5 =>
    zm_bnd (zm_getR p0 19 1) fun v30 =>
    zm_bnd (zm_bnd (zm_cls v30) fun ci => if ci = 0 then fn_J2_size K v30 else if ci = 1 then fn_J4_size K v30 else zm_fl) fun v33 =>
    if v33 ≤ x5 then
      zm_ret x4
    else
      zm_bnd (zm_bnd (zm_is p0 19) fun _ => fn_X2_letting K p0 x5) fun v46 =>
      zm_bnd (zm_bnd (zm_is v46 23) fun _ => fn_X6_isIn K v46 p2) fun v50 =>
      zm_bnd (α := Int32) (
          if v50 = 0 then
            zm_ret 0
          else
            zm_bnd (zm_bnd (zm_is p0 19) fun _ => fn_X2_letting K p0 x5) fun v59 =>
            zm_bnd (zm_bnd (zm_is v59 23) fun _ => fn_X7_has K v59 p3) fun v63 =>
            if v63 = 0 then
              zm_ret 0
            else
              zm_ret 1
        ) fun b74 =>
      fn_X2_isOnce_27 K p0 p1 p2 p3 n (x4 + b74) (x5 + 1)
noncomputable def fn_X2_isOnce_14 (K : zm_K) (p0 : zm_R) (p2 : Int32) : Nat → Int32 → Int32 → zm_M ((Int32) ⊕ ((Int32) ⊕ (Int32)))
  | 0, _, _ => zm_fl
  | n + 1, x1, x3 =>
    if 600 ≤ x3 then
      zm_ret (Sum.inl x1)
    else
      zm_bnd (α := Int32) (fn_X2_isOnce_27 K p0 x1 p2 x3 zm_N 0 0) fun b83 =>
      if b83 ≤ 1 then
        fn_X2_isOnce_14 K p0 p2 n (x1 + b83) (x3 + 1)
      else
        zm_ret (Sum.inr (Sum.inr 0))
noncomputable def fn_X2_isOnce_4 (K : zm_K) (p0 : zm_R) : Nat → Int32 → Int32 → zm_M ((Int32) ⊕ (Int32))
  | 0, _, _ => zm_fl
  | n + 1, x1, x2 =>
    zm_bnd (zm_bnd (zm_is p0 19) fun _ => fn_X2_boxes K p0) fun v6 =>
    if v6 ≤ x2 then
      zm_ret (Sum.inl x1)
    else
      zm_bnx (β := Int32) (fn_X2_isOnce_14 K p0 x2 zm_N x1 0) fun b102 =>
      fn_X2_isOnce_4 K p0 n b102 (x2 + 1)
noncomputable def fn_X2_isOnce (K : zm_K) (a0 : zm_R) : zm_M Int32 :=
  zm_bnx (β := Int32) (fn_X2_isOnce_4 K a0 zm_N 0 0) fun b108 =>
  zm_bnd (zm_bnd (zm_is a0 19) fun _ => fn_X2_ofAll K a0 1) fun v111 =>
  if b108 = v111 then
    zm_ret 1
  else
    zm_ret 0
theorem rf_X2_isOnce_27 (H : zm_H Ω K) (C : zm_C p l R s m args meth c Ω lw_all cX2_isOnce yX2_isOnce.cls yX2_isOnce.name 6 19 464 (Option.some Jvm.ClassFile.FieldType.boolean)) (hX : zm_XO p l e R s m args below meth c Ω n0 k0 (zm_QFs below args s Ω n0 k0 zm_tvI)) (p0 : zm_R) (p1 : Int32) (p2 : Int32) (p3 : Int32) : ∀ (n : Nat) (x4 : Int32) (x5 : Int32) (J : (Int32) → zm_M Int32) (ls : Array Slot), lv_has ls 6 [(0, va_rf p0), (1, .int p1), (2, .int p2), (3, .int p3), (4, .int x4), (5, .int x5)] → (∀ (b : Int32) (ls : Array Slot), lv_has ls 6 [(0, va_rf p0), (1, .int p1), (2, .int p2), (3, .int p3), (4, .int b)] → zm_RK p l e R s m args below meth c Ω n0 k0 (zm_QFs below args s Ω n0 k0 zm_tvI) (zm_ret b) J (F0 m 83 ls [])) → zm_RK p l e R s m args below meth c Ω n0 k0 (zm_QFs below args s Ω n0 k0 zm_tvI) (fn_X2_isOnce_27 K p0 p1 p2 p3 n x4 x5) J (F0 m 27 ls []) := by
  have hx := C.1
  have hb := C.2.1
  intro n
  induction n with
  | zero => intro x4 x5 J ls hl hJ; exact rk_fl
  | succ n ih =>
    intro x4 x5 J ls hl hJ
    unfold fn_X2_isOnce_27
    refine rk_of (fun _ _ _ _ _ k => lv_iload hx hb dX2_isOnce_27 (lv_at hl 5 rfl) (lr_aload_n hx hb dX2_isOnce_29 rfl (lv_at hl 0 rfl) k)) ?_
    refine rk_get zm_rdR_eq C (hc_X2 H) (k := 1) (Nat.le_of_ble_eq_true rfl) in_X2 q198 (fun _ h => h) dX2_isOnce_30 (fun v30 => ?_)
    refine rk_callI hX (cl_dsp (fun ci => cl_case (cl_F (n := 0) (rest := [.int x5]) (av := []) C (hc_J2 H) (ct_J2_size H v30) (lw_F q1054 q1057 q752 q105 q753) (zh_Fw H C (by decide) q1056 q1055 q1059 q1058 q309) (by decide +kernel) ⟨(Nat.le_of_ble_eq_true rfl), (Nat.le_of_ble_eq_true rfl)⟩ rfl hl.1 rfl (zw_le (zw_I zw_nil) (Nat.le_of_ble_eq_true rfl)) dX2_isOnce_33) (cl_case (cl_F (n := 0) (rest := [.int x5]) (av := []) C (hc_J4 H) (ct_J4_size H v30) (lw_F q1054 q1060 q755 q107 q756) (zh_Fw H C (by decide) q1056 q1055 q1062 q1061 q336) (by decide +kernel) ⟨(Nat.le_of_ble_eq_true rfl), (Nat.le_of_ble_eq_true rfl)⟩ rfl hl.1 rfl (zw_le (zw_I zw_nil) (Nat.le_of_ble_eq_true rfl)) dX2_isOnce_33) (cl_fl)))) (fun v33 => ?_)
    refine rk_ite (fun _ _ _ _ _ k1 k2 => lv_icmp_ge (tgt := 83) hx hb dX2_isOnce_38 (by decide) k1 k2) (fun c_38 => ?_) (fun c_38 => ?_)
    · exact hJ x4 ls (lv_sub hl [0, 1, 2, 3, 4] rfl)
    · refine rk_of (fun _ _ _ _ _ k => lv_iload hx hb dX2_isOnce_41 (lv_at hl 4 rfl) (lr_aload_n hx hb dX2_isOnce_43 rfl (lv_at hl 0 rfl) (lv_iload hx hb dX2_isOnce_44 (lv_at hl 5 rfl) k))) ?_
      refine rk_callR hX (cl_V (rest := [.int x4]) (av := [.int x5]) C (hc_X2 H) (ct_X2_letting H p0 x5) (lw_V q1090 q1091 q1092 q102 q1093) ⟨rfl, hd_X2_letting⟩ ⟨(Nat.le_of_ble_eq_true rfl), (Nat.le_of_ble_eq_true rfl)⟩ rfl hl.1 rfl (zw_le (zw_I zw_nil) (Nat.le_of_ble_eq_true rfl)) dX2_isOnce_46) (fun v46 => ?_)
      refine rk_of (fun _ _ _ _ _ k => lv_iload_n hx hb dX2_isOnce_49 rfl (lv_at hl 2 rfl) k) ?_
      refine rk_callI hX (cl_V (rest := [.int x4]) (av := [.int p2]) C (hc_X6 H) (ct_X6_isIn H v46 p2) (lw_V q1095 q1096 q1097 q137 q1098) ⟨rfl, hd_X6_isIn⟩ ⟨(Nat.le_of_ble_eq_true rfl), (Nat.le_of_ble_eq_true rfl)⟩ rfl hl.1 rfl (zw_le (zw_I zw_nil) (Nat.le_of_ble_eq_true rfl)) dX2_isOnce_50) (fun v50 => ?_)
      refine rk_join (β := Int32) (fun (b74 : Int32) ls => lv_has ls 6 [(0, va_rf p0), (1, .int p1), (2, .int p2), (3, .int p3), (5, .int x5)]) (fun (b74 : Int32) ls => F0 m 74 ls [.int b74, .int x4]) (fun b74 ls hl => ?_) (fun hJ74 => ?_)
      · refine rk_ofs (fun _ _ _ _ _ k => lv_iadd hx hb dX2_isOnce_74 (lr_istore hx hb dX2_isOnce_75 hl (Nat.le_of_ble_eq_true rfl) [0, 1, 2, 3, 4] rfl ⟨trivial, ⟨trivial, ⟨trivial, ⟨rfl, ⟨trivial, trivial⟩⟩⟩⟩⟩ k)) (fun ls hl => ?_)
        refine rk_ofs (fun _ _ _ _ _ k => lr_iinc (v := x5 + 1) hx hb dX2_isOnce_77 hl (k := 5) rfl rfl (Nat.le_of_ble_eq_true rfl) [0, 1, 2, 3, 4] rfl ⟨rfl, ⟨trivial, ⟨trivial, ⟨trivial, ⟨trivial, trivial⟩⟩⟩⟩⟩ k) (fun ls hl => ?_)
        refine rk_of (fun _ _ _ _ _ k => lv_goto (tgt := 27) hx hb dX2_isOnce_80 (by decide) k) ?_
        exact ih (x4 + b74) (x5 + 1) J ls (lv_sub hl [2, 3, 4, 5, 1, 0] rfl) hJ
      · refine rk_ite (fun _ _ _ _ _ k1 k2 => lv_if_eq (tgt := 73) hx hb dX2_isOnce_53 (by decide) k1 k2) (fun c_53 => ?_) (fun c_53 => ?_)
        · refine rk_of (fun _ _ _ _ _ k => lv_iconst (v := 0) hx hb dX2_isOnce_73 rfl k) ?_
          exact hJ74 0 ls (lv_sub hl [0, 1, 2, 3, 5] rfl)
        · refine rk_of (fun _ _ _ _ _ k => lr_aload_n hx hb dX2_isOnce_56 rfl (lv_at hl 0 rfl) (lv_iload hx hb dX2_isOnce_57 (lv_at hl 5 rfl) k)) ?_
          refine rk_callR hX (cl_V (rest := [.int x4]) (av := [.int x5]) C (hc_X2 H) (ct_X2_letting H p0 x5) (lw_V q1090 q1091 q1092 q102 q1093) ⟨rfl, hd_X2_letting⟩ ⟨(Nat.le_of_ble_eq_true rfl), (Nat.le_of_ble_eq_true rfl)⟩ rfl hl.1 rfl (zw_le (zw_I zw_nil) (Nat.le_of_ble_eq_true rfl)) dX2_isOnce_59) (fun v59 => ?_)
          refine rk_of (fun _ _ _ _ _ k => lv_iload_n hx hb dX2_isOnce_62 rfl (lv_at hl 3 rfl) k) ?_
          refine rk_callI hX (cl_D (n := 1) (rest := [.int x4]) (av := [.int p3]) C (hc_X6 H) (ct_X7_has H v59 p3) (lw_meth q999) q140 ((zh_df H).choose_spec.1 _ (List.mem_of_getElem? (i := 2) rfl)) ((zh_df H).choose_spec.1 _ (List.mem_of_getElem? (i := 3) rfl)) ((zh_df H).choose_spec.2 _ (List.mem_of_getElem? (i := 1) rfl)) (zn_wD H C q995) q997 (by decide) (by decide +kernel) ⟨(Nat.le_of_ble_eq_true rfl), (Nat.le_of_ble_eq_true rfl)⟩ rfl hl.1 rfl (zw_le (zw_I zw_nil) (Nat.le_of_ble_eq_true rfl)) dX2_isOnce_63) (fun v63 => ?_)
          refine rk_ite (fun _ _ _ _ _ k1 k2 => lv_if_eq (tgt := 73) hx hb dX2_isOnce_66 (by decide) k1 k2) (fun c_66 => ?_) (fun c_66 => ?_)
          · refine rk_of (fun _ _ _ _ _ k => lv_iconst (v := 0) hx hb dX2_isOnce_73 rfl k) ?_
            exact hJ74 0 ls (lv_sub hl [0, 1, 2, 3, 5] rfl)
          · refine rk_of (fun _ _ _ _ _ k => lv_iconst (v := 1) hx hb dX2_isOnce_69 rfl (lv_goto (tgt := 74) hx hb dX2_isOnce_70 (by decide) k)) ?_
            exact hJ74 1 ls (lv_sub hl [0, 1, 2, 3, 5] rfl)
theorem rf_X2_isOnce_14 (H : zm_H Ω K) (C : zm_C p l R s m args meth c Ω lw_all cX2_isOnce yX2_isOnce.cls yX2_isOnce.name 6 19 464 (Option.some Jvm.ClassFile.FieldType.boolean)) (hX : zm_XO p l e R s m args below meth c Ω n0 k0 (zm_QFs below args s Ω n0 k0 zm_tvI)) (p0 : zm_R) (p2 : Int32) : ∀ (n : Nat) (x1 : Int32) (x3 : Int32) (J : ((Int32) ⊕ ((Int32) ⊕ (Int32))) → zm_M Int32) (ls : Array Slot), lv_has ls 6 [(0, va_rf p0), (2, .int p2), (1, .int x1), (3, .int x3)] → (∀ (b : Int32) (ls : Array Slot), lv_has ls 6 [(0, va_rf p0), (2, .int p2), (1, .int b)] → zm_RK p l e R s m args below meth c Ω n0 k0 (zm_QFs below args s Ω n0 k0 zm_tvI) (zm_ret (Sum.inl b)) J (F0 m 102 ls [])) → (∀ (v : Int32) (g : JFrame), zm_RF p l e R s m args below meth c Ω n0 k0 (zm_QFs below args s Ω n0 k0 zm_tvI) (zm_ret v) g → zm_RK p l e R s m args below meth c Ω n0 k0 (zm_QFs below args s Ω n0 k0 zm_tvI) (zm_ret (Sum.inr (Sum.inr v))) J g) → zm_RK p l e R s m args below meth c Ω n0 k0 (zm_QFs below args s Ω n0 k0 zm_tvI) (fn_X2_isOnce_14 K p0 p2 n x1 x3) J (F0 m 14 ls []) := by
  have hx := C.1
  have hb := C.2.1
  intro n
  induction n with
  | zero => intro x1 x3 J ls hl hJ hR; exact rk_fl
  | succ n ih =>
    intro x1 x3 J ls hl hJ hR
    unfold fn_X2_isOnce_14
    refine rk_ite (fun _ _ _ _ _ k1 k2 => lv_iload_n hx hb dX2_isOnce_14 rfl (lv_at hl 3 rfl) (lv_sipush (v := 600) hx hb dX2_isOnce_15 rfl (lv_icmp_ge (tgt := 102) hx hb dX2_isOnce_18 (by decide) k1 k2))) (fun c_18 => ?_) (fun c_18 => ?_)
    · exact hJ x1 ls (lv_sub hl [0, 1, 2] rfl)
    · refine rk_ofs (fun _ _ _ _ _ k => lv_iconst (v := 0) hx hb dX2_isOnce_21 rfl (lr_istore hx hb dX2_isOnce_22 hl (Nat.le_of_ble_eq_true rfl) [0, 1, 2, 3] rfl ⟨trivial, ⟨trivial, ⟨trivial, ⟨rfl, trivial⟩⟩⟩⟩ k)) (fun ls hl => ?_)
      refine rk_ofs (fun _ _ _ _ _ k => lv_iconst (v := 0) hx hb dX2_isOnce_24 rfl (lr_istore hx hb dX2_isOnce_25 hl (Nat.le_of_ble_eq_true rfl) [0, 1, 2, 3, 4] rfl ⟨rfl, ⟨trivial, ⟨trivial, ⟨trivial, ⟨trivial, trivial⟩⟩⟩⟩⟩ k)) (fun ls hl => ?_)
      refine rk_join (β := Int32) (fun (b83 : Int32) ls => lv_has ls 6 [(0, va_rf p0), (1, .int x1), (2, .int p2), (3, .int x3), (4, .int b83)]) (fun (b83 : Int32) ls => F0 m 83 ls []) (fun b83 ls hl => ?_) (fun hJ83 => ?_)
      · refine rk_ite (fun _ _ _ _ _ k1 k2 => lv_iload hx hb dX2_isOnce_83 (lv_at hl 4 rfl) (lv_iconst (v := 1) hx hb dX2_isOnce_85 rfl (lv_icmp_le (tgt := 91) hx hb dX2_isOnce_86 (by decide) k1 k2))) (fun c_86 => ?_) (fun c_86 => ?_)
        · refine rk_ofs (fun _ _ _ _ _ k => lv_iload_n hx hb dX2_isOnce_91 rfl (lv_at hl 1 rfl) (lv_iload hx hb dX2_isOnce_92 (lv_at hl 4 rfl) (lv_iadd hx hb dX2_isOnce_94 (lr_istore_n hx hb dX2_isOnce_95 rfl hl (Nat.le_of_ble_eq_true rfl) [0, 2, 3] rfl ⟨(by first | exact va_rf_cat _ | rfl), ⟨trivial, ⟨trivial, trivial⟩⟩⟩ k)))) (fun ls hl => ?_)
          refine rk_ofs (fun _ _ _ _ _ k => lr_iinc (v := x3 + 1) hx hb dX2_isOnce_96 hl (k := 3) rfl rfl (Nat.le_of_ble_eq_true rfl) [0, 1, 2] rfl ⟨trivial, ⟨trivial, ⟨rfl, trivial⟩⟩⟩ k) (fun ls hl => ?_)
          refine rk_of (fun _ _ _ _ _ k => lv_goto (tgt := 14) hx hb dX2_isOnce_99 (by decide) k) ?_
          exact ih (x1 + b83) (x3 + 1) J ls (lv_sub hl [2, 3, 1, 0] rfl) hJ hR
        · refine rk_of (fun _ _ _ _ _ k => lv_iconst (v := 0) hx hb dX2_isOnce_89 rfl k) ?_
          exact hR _ _ (rf_iret C rfl dX2_isOnce_90)
      · exact rf_X2_isOnce_27 H C hX p0 x1 p2 x3 zm_N 0 0 _ ls (lv_sub hl [2, 4, 3, 5, 1, 0] rfl) hJ83
theorem rf_X2_isOnce_4 (H : zm_H Ω K) (C : zm_C p l R s m args meth c Ω lw_all cX2_isOnce yX2_isOnce.cls yX2_isOnce.name 6 19 464 (Option.some Jvm.ClassFile.FieldType.boolean)) (hX : zm_XO p l e R s m args below meth c Ω n0 k0 (zm_QFs below args s Ω n0 k0 zm_tvI)) (p0 : zm_R) : ∀ (n : Nat) (x1 : Int32) (x2 : Int32) (J : ((Int32) ⊕ (Int32)) → zm_M Int32) (ls : Array Slot), lv_has ls 6 [(0, va_rf p0), (1, .int x1), (2, .int x2)] → (∀ (b : Int32) (ls : Array Slot), lv_has ls 6 [(0, va_rf p0), (1, .int b)] → zm_RK p l e R s m args below meth c Ω n0 k0 (zm_QFs below args s Ω n0 k0 zm_tvI) (zm_ret (Sum.inl b)) J (F0 m 108 ls [])) → (∀ (v : Int32) (g : JFrame), zm_RF p l e R s m args below meth c Ω n0 k0 (zm_QFs below args s Ω n0 k0 zm_tvI) (zm_ret v) g → zm_RK p l e R s m args below meth c Ω n0 k0 (zm_QFs below args s Ω n0 k0 zm_tvI) (zm_ret (Sum.inr v)) J g) → zm_RK p l e R s m args below meth c Ω n0 k0 (zm_QFs below args s Ω n0 k0 zm_tvI) (fn_X2_isOnce_4 K p0 n x1 x2) J (F0 m 4 ls []) := by
  have hx := C.1
  have hb := C.2.1
  intro n
  induction n with
  | zero => intro x1 x2 J ls hl hJ hR; exact rk_fl
  | succ n ih =>
    intro x1 x2 J ls hl hJ hR
    unfold fn_X2_isOnce_4
    refine rk_of (fun _ _ _ _ _ k => lv_iload_n hx hb dX2_isOnce_4 rfl (lv_at hl 2 rfl) (lr_aload_n hx hb dX2_isOnce_5 rfl (lv_at hl 0 rfl) k)) ?_
    refine rk_callI hX (cl_V (rest := [.int x2]) (av := []) C (hc_X2 H) (ct_X2_boxes H p0) (lw_V q1086 q1087 q1088 q102 q1089) ⟨rfl, hd_X2_boxes⟩ ⟨(Nat.le_of_ble_eq_true rfl), (Nat.le_of_ble_eq_true rfl)⟩ rfl hl.1 rfl (zw_le (zw_I zw_nil) (Nat.le_of_ble_eq_true rfl)) dX2_isOnce_6) (fun v6 => ?_)
    refine rk_ite (fun _ _ _ _ _ k1 k2 => lv_icmp_ge (tgt := 108) hx hb dX2_isOnce_9 (by decide) k1 k2) (fun c_9 => ?_) (fun c_9 => ?_)
    · exact hJ x1 ls (lv_sub hl [0, 1] rfl)
    · refine rk_ofs (fun _ _ _ _ _ k => lv_iconst (v := 0) hx hb dX2_isOnce_12 rfl (lr_istore_n hx hb dX2_isOnce_13 rfl hl (Nat.le_of_ble_eq_true rfl) [0, 1, 2] rfl ⟨trivial, ⟨trivial, ⟨rfl, trivial⟩⟩⟩ k)) (fun ls hl => ?_)
      refine rk_joinx (β := Int32) (fun (b102 : Int32) ls => lv_has ls 6 [(0, va_rf p0), (2, .int x2), (1, .int b102)]) (fun (b102 : Int32) ls => F0 m 102 ls []) (fun b102 ls hl => ?_) (fun hJ102 => ?_)
      · refine rk_ofs (fun _ _ _ _ _ k => lr_iinc (v := x2 + 1) hx hb dX2_isOnce_102 hl (k := 1) rfl rfl (Nat.le_of_ble_eq_true rfl) [0, 2] rfl ⟨trivial, ⟨rfl, trivial⟩⟩ k) (fun ls hl => ?_)
        refine rk_of (fun _ _ _ _ _ k => lv_goto (tgt := 4) hx hb dX2_isOnce_105 (by decide) k) ?_
        exact ih b102 (x2 + 1) J ls (lv_sub hl [1, 2, 0] rfl) hJ hR
      · exact rf_X2_isOnce_14 H C hX p0 x2 zm_N x1 0 _ ls (lv_sub hl [1, 3, 2, 0] rfl) hJ102 (fun v g k9 => by
        refine rk_inr ?_
        exact hR _ _ (k9))
theorem ct_X2_isOnce {l : Launch} {Ω : zm_W} {K : zm_K} (H : zm_H Ω K) (a0 : zm_R) : zm_Ct l Ω yX2_isOnce (ws_ yX2_isOnce cX2_isOnce 6 (Option.some Jvm.ClassFile.FieldType.boolean)) 19 464 [va_rf a0] zm_tvI (fn_X2_isOnce K a0) := by
  refine zm_ct H.1 (by decide +kernel) (zl_le (zl_R zl_nil) (Nat.le_of_ble_eq_true rfl)) ?_
  intro p e R s m args below meth c n0 k0 C hX ls hl
  have hx := C.1
  have hb := C.2.1
  simp only [zg_R, zg_nil] at hl
  have hl : lv_has ls 6 [(0, va_rf a0)] := hl
  refine rk_rf ?_
  unfold fn_X2_isOnce
  refine rk_ofs (fun _ _ _ _ _ k => lv_iconst (v := 0) hx hb dX2_isOnce_0 rfl (lr_istore_n hx hb dX2_isOnce_1 rfl hl (Nat.le_of_ble_eq_true rfl) [0] rfl ⟨(by first | exact va_rf_cat _ | rfl), trivial⟩ k)) (fun ls hl => ?_)
  refine rk_ofs (fun _ _ _ _ _ k => lv_iconst (v := 0) hx hb dX2_isOnce_2 rfl (lr_istore_n hx hb dX2_isOnce_3 rfl hl (Nat.le_of_ble_eq_true rfl) [0, 1] rfl ⟨rfl, ⟨trivial, trivial⟩⟩ k)) (fun ls hl => ?_)
  refine rk_joinx (β := Int32) (fun (b108 : Int32) ls => lv_has ls 6 [(0, va_rf a0), (1, .int b108)]) (fun (b108 : Int32) ls => F0 m 108 ls []) (fun b108 ls hl => ?_) (fun hJ108 => ?_)
  · refine rk_of (fun _ _ _ _ _ k => lv_iload_n hx hb dX2_isOnce_108 rfl (lv_at hl 1 rfl) (lr_aload_n hx hb dX2_isOnce_109 rfl (lv_at hl 0 rfl) (lv_iconst (v := 1) hx hb dX2_isOnce_110 rfl k))) ?_
    refine rk_callI hX (cl_V (rest := [.int b108]) (av := [.int 1]) C (hc_X2 H) (ct_X2_ofAll H a0 1) (lw_V q1101 q1102 q1103 q102 q1104) ⟨rfl, hd_X2_ofAll⟩ ⟨(Nat.le_of_ble_eq_true rfl), (Nat.le_of_ble_eq_true rfl)⟩ rfl hl.1 rfl (zw_le (zw_I zw_nil) (Nat.le_of_ble_eq_true rfl)) dX2_isOnce_111) (fun v111 => ?_)
    refine rk_ite (fun _ _ _ _ _ k1 k2 => lv_icmp_ne (tgt := 121) hx hb dX2_isOnce_114 (by decide) k2 k1) (fun c_114 => ?_) (fun c_114 => ?_)
    · refine rk_of (fun _ _ _ _ _ k => lv_iconst (v := 1) hx hb dX2_isOnce_117 rfl (lv_goto (tgt := 122) hx hb dX2_isOnce_118 (by decide) k)) ?_
      exact rk_top (rf_iret C rfl dX2_isOnce_122)
    · refine rk_of (fun _ _ _ _ _ k => lv_iconst (v := 0) hx hb dX2_isOnce_121 rfl k) ?_
      exact rk_top (rf_iret C rfl dX2_isOnce_122)
  · exact rf_X2_isOnce_4 H C hX a0 zm_N 0 0 _ ls (lv_sub hl [2, 1, 0] rfl) hJ108 (fun v g k9 => by
        refine rk_inr ?_
        exact rk_top (k9))
theorem hd_X1_isOnce : yX1_isOnce.cls ≠ "java/lang/invoke/MethodHandle" ∧ yX1_isOnce.cls ≠ "java/lang/invoke/VarHandle" ∧ (parseMethodDescriptor yX1_isOnce.desc).map (fun d => d.parameters.length) = some 0 := by decide +kernel
noncomputable def fn_X1_isOnce (K : zm_K) (a0 : zm_R) : zm_M Int32 :=
  zm_bnd (zm_getR a0 18 0) fun v1 =>
  zm_bnd (zm_bnd (zm_is v1 19) fun _ => fn_X2_isOnce K v1) fun v4 =>
  zm_bnd (zm_grd (v4 = 0 ∨ v4 = 1)) fun _ =>
  zm_ret v4
theorem ct_X1_isOnce {l : Launch} {Ω : zm_W} {K : zm_K} (H : zm_H Ω K) (a0 : zm_R) : zm_Ct l Ω yX1_isOnce (ws_ yX1_isOnce cX1_isOnce 1 (Option.some Jvm.ClassFile.FieldType.boolean)) 20 489 [va_rf a0] zm_tvI (fn_X1_isOnce K a0) := by
  refine zm_ct H.1 (by decide +kernel) (zl_le (zl_R zl_nil) (Nat.le_of_ble_eq_true rfl)) ?_
  intro p e R s m args below meth c n0 k0 C hX ls hl
  have hx := C.1
  have hb := C.2.1
  simp only [zg_R, zg_nil] at hl
  have hl : lv_has ls 1 [(0, va_rf a0)] := hl
  refine rk_rf ?_
  unfold fn_X1_isOnce
  refine rk_of (fun _ _ _ _ _ k => lr_aload_n hx hb dX1_isOnce_0 rfl (lv_at hl 0 rfl) k) ?_
  refine rk_get zm_rdR_eq C (hc_X1 H) (k := 0) (Nat.le_of_ble_eq_true rfl) in_X1 q271 (fun _ h => h) dX1_isOnce_1 (fun v1 => ?_)
  refine rk_callI hX (cl_V (rest := []) (av := []) C (hc_X2 H) (ct_X2_isOnce H v1) (lw_V q1082 q1083 q1084 q102 q1085) ⟨rfl, hd_X2_isOnce⟩ ⟨(Nat.le_of_ble_eq_true rfl), (Nat.le_of_ble_eq_true rfl)⟩ rfl hl.1 rfl (zw_le zw_nil (Nat.le_of_ble_eq_true rfl)) dX1_isOnce_4) (fun v4 => ?_)
  refine rk_grd (fun hg_7 => ?_)
  exact rk_top (rf_iret C (zn_Z hg_7) dX1_isOnce_7)
theorem hd_J32_init_2 : yJ32_init_2.cls ≠ "java/lang/invoke/MethodHandle" ∧ yJ32_init_2.cls ≠ "java/lang/invoke/VarHandle" ∧ (parseMethodDescriptor yJ32_init_2.desc).map (fun d => d.parameters.length) = some 0 := by decide +kernel
noncomputable def fn_J32_init_2 (K : zm_K) (a0 : zm_R) : zm_M Unit :=
  zm_bnd (zm_bnd (zm_nn a0) fun _ => fn_J11_init_2 K a0) fun _ =>
  zm_ret ()
theorem ct_J32_init_2 {l : Launch} {Ω : zm_W} {K : zm_K} (H : zm_H Ω K) (a0 : zm_R) : zm_Ct l Ω yJ32_init_2 (ws_ yJ32_init_2 cJ32_init_2 1 (Option.none : Option Jvm.ClassFile.FieldType)) 7 188 [va_rf a0] zm_tvV (fn_J32_init_2 K a0) := by
  refine zm_ct H.1 (by decide +kernel) (zl_le (zl_R zl_nil) (Nat.le_of_ble_eq_true rfl)) ?_
  intro p e R s m args below meth c n0 k0 C hX ls hl
  have hx := C.1
  have hb := C.2.1
  simp only [zg_R, zg_nil] at hl
  have hl : lv_has ls 1 [(0, va_rf a0)] := hl
  refine rk_rf ?_
  unfold fn_J32_init_2
  refine rk_of (fun _ _ _ _ _ k => lr_aload_n hx hb dJ32_init_2_0 rfl (lv_at hl 0 rfl) k) ?_
  refine rk_callV hX (cl_Ir (rest := []) C (ct_J11_init_2 H a0) (lw_meth q800) q115 q2532 q799 rfl hd_J11_init_2 ⟨(Nat.le_of_ble_eq_true rfl), (Nat.le_of_ble_eq_true rfl)⟩ rfl hl.1 rfl (zw_le zw_nil (Nat.le_of_ble_eq_true rfl)) dJ32_init_2_1) (fun _ => ?_)
  exact rk_top (rf_vret C dJ32_init_2_4)
theorem hd_X1_meanLength : yX1_meanLength.cls ≠ "java/lang/invoke/MethodHandle" ∧ yX1_meanLength.cls ≠ "java/lang/invoke/VarHandle" ∧ (parseMethodDescriptor yX1_meanLength.desc).map (fun d => d.parameters.length) = some 0 := by decide +kernel
noncomputable def fn_X1_meanLength (K : zm_K) (a0 : zm_R) : zm_M UInt64 :=
  zm_bnd (zm_getR a0 18 0) fun v1 =>
  zm_bnd (zm_bnd (zm_is v1 19) fun _ => fn_X2_ofAll K v1 0) fun v5 =>
  if v5 = 0 then
    zm_bnd (zm_new 17 [.null, .null, .null, .null, .int 0, .null]) fun v13 =>
    zm_bnd (fn_J32_init_2 K (some v13)) fun _ =>
    zm_ath (some v13)
  else
    zm_bnd (zm_getR a0 18 0) fun v22 =>
    zm_bnd (zm_bnd (zm_is v22 19) fun _ => fn_X2_ofAll K v22 1) fun v26 =>
    zm_bnd (zm_grd (FP.ddiv (FP.i2d v26) (FP.i2d v5) &&& 0x7fffffffffffffff ≤ 0x7ff0000000000000)) fun _ =>
    zm_ret (FP.ddiv (FP.i2d v26) (FP.i2d v5))
theorem ct_X1_meanLength {l : Launch} {Ω : zm_W} {K : zm_K} (H : zm_H Ω K) (a0 : zm_R) : zm_Ct l Ω yX1_meanLength (ws_ yX1_meanLength cX1_meanLength 2 (Option.some Jvm.ClassFile.FieldType.double)) 19 464 [va_rf a0] zm_tvD (fn_X1_meanLength K a0) := by
  refine zm_ct H.1 (by decide +kernel) (zl_le (zl_R zl_nil) (Nat.le_of_ble_eq_true rfl)) ?_
  intro p e R s m args below meth c n0 k0 C hX ls hl
  have hx := C.1
  have hb := C.2.1
  simp only [zg_R, zg_nil] at hl
  have hl : lv_has ls 2 [(0, va_rf a0)] := hl
  refine rk_rf ?_
  unfold fn_X1_meanLength
  refine rk_of (fun _ _ _ _ _ k => lr_aload_n hx hb dX1_meanLength_0 rfl (lv_at hl 0 rfl) k) ?_
  refine rk_get zm_rdR_eq C (hc_X1 H) (k := 0) (Nat.le_of_ble_eq_true rfl) in_X1 q271 (fun _ h => h) dX1_meanLength_1 (fun v1 => ?_)
  refine rk_of (fun _ _ _ _ _ k => lv_iconst (v := 0) hx hb dX1_meanLength_4 rfl k) ?_
  refine rk_callI hX (cl_V (rest := []) (av := [.int 0]) C (hc_X2 H) (ct_X2_ofAll H v1 0) (lw_V q1122 q1102 q1103 q102 q1104) ⟨rfl, hd_X2_ofAll⟩ ⟨(Nat.le_of_ble_eq_true rfl), (Nat.le_of_ble_eq_true rfl)⟩ rfl hl.1 rfl (zw_le zw_nil (Nat.le_of_ble_eq_true rfl)) dX1_meanLength_5) (fun v5 => ?_)
  refine rk_ofs (fun _ _ _ _ _ k => lr_istore_n hx hb dX1_meanLength_8 rfl hl (Nat.le_of_ble_eq_true rfl) [0] rfl ⟨(by first | exact va_rf_cat _ | rfl), trivial⟩ k) (fun ls hl => ?_)
  refine rk_ite (fun _ _ _ _ _ k1 k2 => lv_iload_n hx hb dX1_meanLength_9 rfl (lv_at hl 0 rfl) (lv_if_ne (tgt := 21) hx hb dX1_meanLength_10 (by decide) k2 k1)) (fun c_10 => ?_) (fun c_10 => ?_)
  · refine rk_new C (hc_J32 H) in_J32 tyJ32_ok q2528 q2511 q149 (fs := [.null, .null, .null, .null, .int 0, .null]) rfl (fun j hj => zdf_J32 j hj) dX1_meanLength_13 (fun v13 => ?_)
    refine rk_of (fun _ _ _ _ _ k => lv_dup hx hb dX1_meanLength_16 (va_rf_cat _) k) ?_
    refine rk_callV hX (cl_I (rest := [va_rf (some v13)]) C (ct_J32_init_2 H (some v13)) (lw_meth q2531) q149 q2529 q2530 rfl hd_J32_init_2 ⟨(Nat.le_of_ble_eq_true rfl), (Nat.le_of_ble_eq_true rfl)⟩ rfl hl.1 rfl (zw_le (zw_R zw_nil) (Nat.le_of_ble_eq_true rfl)) dX1_meanLength_17) (fun _ => ?_)
    exact rk_ath H C hX dX1_meanLength_20
  · refine rk_of (fun _ _ _ _ _ k => lr_aload_n hx hb dX1_meanLength_21 rfl (lv_at hl 1 rfl) k) ?_
    refine rk_get zm_rdR_eq C (hc_X1 H) (k := 0) (Nat.le_of_ble_eq_true rfl) in_X1 q271 (fun _ h => h) dX1_meanLength_22 (fun v22 => ?_)
    refine rk_of (fun _ _ _ _ _ k => lv_iconst (v := 1) hx hb dX1_meanLength_25 rfl k) ?_
    refine rk_callI hX (cl_V (rest := []) (av := [.int 1]) C (hc_X2 H) (ct_X2_ofAll H v22 1) (lw_V q1122 q1102 q1103 q102 q1104) ⟨rfl, hd_X2_ofAll⟩ ⟨(Nat.le_of_ble_eq_true rfl), (Nat.le_of_ble_eq_true rfl)⟩ rfl hl.1 rfl (zw_le zw_nil (Nat.le_of_ble_eq_true rfl)) dX1_meanLength_26) (fun v26 => ?_)
    refine rk_of (fun _ _ _ _ _ k => lv_i2d hx hb dX1_meanLength_29 (lv_iload_n hx hb dX1_meanLength_30 rfl (lv_at hl 0 rfl) (lv_i2d hx hb dX1_meanLength_31 k))) ?_
    refine rk_grd (fun hg_32 => ?_)
    refine rk_of (fun _ _ _ _ _ k => lv_ddiv hx hb dX1_meanLength_32 hg_32 k) ?_
    exact rk_top (rf_dret C dX1_meanLength_33)
theorem hd_X0_meanLength : yX0_meanLength.cls ≠ "java/lang/invoke/MethodHandle" ∧ yX0_meanLength.cls ≠ "java/lang/invoke/VarHandle" ∧ (parseMethodDescriptor yX0_meanLength.desc).map (fun d => d.parameters.length) = some 2 := by decide +kernel
noncomputable def fn_X0_meanLength (K : zm_K) (a0 : zm_R) (a1 : zm_R) : zm_M Int32 :=
  zm_cth (zm_bnd (zm_is a0 18) fun _ => fn_X1_meanLength K a0) (fun (E3 : String) (q3 : Nat) =>
      if E3 ∈ (["java/lang/ArithmeticException"] : List String) then
        zm_ret 1
      else
        if E3 ∈ (["java/lang/IllegalArgumentException", "java/lang/IndexOutOfBoundsException", "java/util/NoSuchElementException", "java/lang/UnsupportedOperationException", "java/lang/ArrayIndexOutOfBoundsException", "java/lang/IllegalStateException", "java/lang/StringIndexOutOfBoundsException", "BoxSpans$Refusal", "BoxSpans$TextError"] : List String) then
          zm_thr E3 q3
        else
          zm_fl
    ) fun v3 =>
  zm_bnd (zm_astD K a1 0 v3) fun _ =>
  zm_ret 0
theorem ct_X0_meanLength {l : Launch} {Ω : zm_W} {K : zm_K} (H : zm_H Ω K) (a0 : zm_R) (a1 : zm_R) : zm_Ct l Ω yX0_meanLength (wsW_ yX0_meanLength cX0_meanLength 3 (Option.some Jvm.ClassFile.FieldType.int) [(0, 7, 10, 122)]) 20 485 [va_rf a0, va_rf a1] zm_tvI (fn_X0_meanLength K a0 a1) := by
  refine zm_ctW H.1 (by decide +kernel) (zl_le (zl_R (zl_R zl_nil)) (Nat.le_of_ble_eq_true rfl)) ?_
  intro p e R s m args below meth c n0 k0 C hN hT ls hl
  have hx := C.1
  have hb := C.2.1
  simp only [zg_R, zg_nil] at hl
  have hl : lv_has ls 3 [(0, va_rf a0), (1, va_rf a1)] := hl
  refine rk_rf ?_
  unfold fn_X0_meanLength
  refine rk_of (fun _ _ _ _ _ k => lr_aload_n hx hb dX0_meanLength_0 rfl (lv_at hl 1 rfl) (lv_iconst (v := 0) hx hb dX0_meanLength_1 rfl (lr_aload_n hx hb dX0_meanLength_2 rfl (lv_at hl 0 rfl) k))) ?_
  refine rk_cthD (cl_V (rest := [.int 0, va_rf a1]) (av := []) C (hc_X1 H) (ct_X1_meanLength H a0) (lw_V q2524 q2525 q2526 q101 q2527) ⟨rfl, hd_X1_meanLength⟩ ⟨(Nat.le_of_ble_eq_true rfl), (Nat.le_of_ble_eq_true rfl)⟩ rfl hl.1 rfl (zw_le (zw_I (zw_R zw_nil)) (Nat.le_of_ble_eq_true rfl)) dX0_meanLength_3) (fun E3 q3 => ?_) (fun v3 => ?_)
  · refine rx_ite (fun h3_0 => ?_) (fun h3_0 => ?_)
    · refine rx_cat (k := 0) C hT rfl zp_nil ⟨by decide, by decide⟩ (by decide) q2510 ((zp_cons (P := fun E => (Cond.castable E "java/lang/ArithmeticException").before args s = true) (zn_wC H C q2522) zp_nil) E3 h3_0) ?_
      refine rk_ofs (fun _ _ _ _ _ k => lr_astore_n hx hb dX0_meanLength_10 rfl hl (Nat.le_of_ble_eq_true rfl) [] rfl trivial k) (fun ls hl => ?_)
      refine rk_of (fun _ _ _ _ _ k => lv_iconst (v := 1) hx hb dX0_meanLength_11 rfl k) ?_
      exact rk_top (rf_iret C rfl dX0_meanLength_12)
    · refine rx_ite (fun h3_x => ?_) (fun _ => rx_fl)
      exact rx_out C hT (zp_cons (Or.inr ⟨by decide, _, q2510, zh_ncs H C (L := ["java/lang/IllegalArgumentException", "java/lang/IndexOutOfBoundsException", "java/util/NoSuchElementException", "java/lang/UnsupportedOperationException", "java/lang/ArrayIndexOutOfBoundsException", "java/lang/IllegalStateException", "java/lang/StringIndexOutOfBoundsException", "BoxSpans$Refusal", "BoxSpans$TextError"]) (by decide) h3_x⟩) zp_nil)
  refine rk_dast C H.2.2.1 dX0_meanLength_6 ?_
  refine rk_of (fun _ _ _ _ _ k => lv_goto (tgt := 13) hx hb dX0_meanLength_7 (by decide) (lv_iconst (v := 0) hx hb dX0_meanLength_13 rfl k)) ?_
  exact rk_top (rf_iret C rfl dX0_meanLength_14)
theorem hd_X1_letShare : yX1_letShare.cls ≠ "java/lang/invoke/MethodHandle" ∧ yX1_letShare.cls ≠ "java/lang/invoke/VarHandle" ∧ (parseMethodDescriptor yX1_letShare.desc).map (fun d => d.parameters.length) = some 1 := by decide +kernel
noncomputable def fn_X1_letShare (K : zm_K) (a0 : zm_R) (a1 : Int32) : zm_M UInt32 :=
  zm_bnd (zm_bnd (zm_is a0 18) fun _ => fn_X1_requireBox K a0 a1) fun _ =>
  zm_bnd (zm_getR a0 18 0) fun v6 =>
  zm_bnd (zm_bnd (zm_is v6 19) fun _ => fn_X2_ofBox K v6 a1 1) fun v11 =>
  zm_bnd (zm_grd (FP.fdiv (FP.i2f v11) 1142292480 &&& 0x7fffffff ≤ 0x7f800000)) fun _ =>
  zm_ret (FP.fdiv (FP.i2f v11) 1142292480)
theorem ct_X1_letShare {l : Launch} {Ω : zm_W} {K : zm_K} (H : zm_H Ω K) (a0 : zm_R) (a1 : Int32) : zm_Ct l Ω yX1_letShare (ws_ yX1_letShare cX1_letShare 2 (Option.some Jvm.ClassFile.FieldType.float)) 18 441 [va_rf a0, .int a1] zm_tvF (fn_X1_letShare K a0 a1) := by
  refine zm_ct H.1 (by decide +kernel) (zl_le (zl_R (zl_I zl_nil)) (Nat.le_of_ble_eq_true rfl)) ?_
  intro p e R s m args below meth c n0 k0 C hX ls hl
  have hx := C.1
  have hb := C.2.1
  simp only [zg_I, zg_R, zg_nil] at hl
  have hl : lv_has ls 2 [(0, va_rf a0), (1, .int a1)] := hl
  refine rk_rf ?_
  unfold fn_X1_letShare
  refine rk_of (fun _ _ _ _ _ k => lr_aload_n hx hb dX1_letShare_0 rfl (lv_at hl 0 rfl) (lv_iload_n hx hb dX1_letShare_1 rfl (lv_at hl 1 rfl) k)) ?_
  refine rk_callV hX (cl_V (rest := []) (av := [.int a1]) C (hc_X1 H) (ct_X1_requireBox H a0 a1) (lw_V q1393 q1395 qs15 q101 q1396) ⟨rfl, hd_X1_requireBox⟩ ⟨(Nat.le_of_ble_eq_true rfl), (Nat.le_of_ble_eq_true rfl)⟩ rfl hl.1 rfl (zw_le zw_nil (Nat.le_of_ble_eq_true rfl)) dX1_letShare_2) (fun _ => ?_)
  refine rk_of (fun _ _ _ _ _ k => lr_aload_n hx hb dX1_letShare_5 rfl (lv_at hl 0 rfl) k) ?_
  refine rk_get zm_rdR_eq C (hc_X1 H) (k := 0) (Nat.le_of_ble_eq_true rfl) in_X1 q271 (fun _ h => h) dX1_letShare_6 (fun v6 => ?_)
  refine rk_of (fun _ _ _ _ _ k => lv_iload_n hx hb dX1_letShare_9 rfl (lv_at hl 1 rfl) (lv_iconst (v := 1) hx hb dX1_letShare_10 rfl k)) ?_
  refine rk_callI hX (cl_V (rest := []) (av := [.int a1, .int 1]) C (hc_X2 H) (ct_X2_ofBox H v6 a1 1) (lw_V q1783 q1106 q1107 q102 q1108) ⟨rfl, hd_X2_ofBox⟩ ⟨(Nat.le_of_ble_eq_true rfl), (Nat.le_of_ble_eq_true rfl)⟩ rfl hl.1 rfl (zw_le zw_nil (Nat.le_of_ble_eq_true rfl)) dX1_letShare_11) (fun v11 => ?_)
  refine rk_of (fun _ _ _ _ _ k => lv_i2f hx hb dX1_letShare_14 (lv_ldcwf (v := 1142292480) hx hb C.2.2.1 (C.2.2.2.1 _ q2540) dX1_letShare_15 k)) ?_
  refine rk_grd (fun hg_18 => ?_)
  refine rk_of (fun _ _ _ _ _ k => lv_fdiv hx hb dX1_letShare_18 hg_18 k) ?_
  exact rk_top (rf_fret C dX1_letShare_19)
theorem hd_X0_letShare : yX0_letShare.cls ≠ "java/lang/invoke/MethodHandle" ∧ yX0_letShare.cls ≠ "java/lang/invoke/VarHandle" ∧ (parseMethodDescriptor yX0_letShare.desc).map (fun d => d.parameters.length) = some 3 := by decide +kernel
noncomputable def fn_X0_letShare (K : zm_K) (a0 : zm_R) (a1 : Int32) (a2 : zm_R) : zm_M Int32 :=
  zm_cth (zm_bnd (zm_is a0 18) fun _ => fn_X1_letShare K a0 a1) (fun (E4 : String) (q4 : Nat) =>
      if E4 ∈ (["java/lang/IndexOutOfBoundsException", "java/lang/ArrayIndexOutOfBoundsException", "java/lang/StringIndexOutOfBoundsException"] : List String) then
        zm_ret 1
      else
        if E4 ∈ (["java/lang/IllegalArgumentException", "java/util/NoSuchElementException", "java/lang/UnsupportedOperationException", "java/lang/IllegalStateException", "java/lang/ArithmeticException", "BoxSpans$Refusal", "BoxSpans$TextError"] : List String) then
          zm_thr E4 q4
        else
          zm_fl
    ) fun v4 =>
  zm_bnd (zm_grd (FP.f2d v4 &&& 0x7fffffffffffffff ≤ 0x7ff0000000000000)) fun _ =>
  zm_bnd (zm_astD K a2 0 (FP.f2d v4)) fun _ =>
  zm_ret 0
theorem ct_X0_letShare {l : Launch} {Ω : zm_W} {K : zm_K} (H : zm_H Ω K) (a0 : zm_R) (a1 : Int32) (a2 : zm_R) : zm_Ct l Ω yX0_letShare (wsW_ yX0_letShare cX0_letShare 4 (Option.some Jvm.ClassFile.FieldType.int) [(0, 9, 12, 21)]) 19 462 [va_rf a0, .int a1, va_rf a2] zm_tvI (fn_X0_letShare K a0 a1 a2) := by
  refine zm_ctW H.1 (by decide +kernel) (zl_le (zl_R (zl_I (zl_R zl_nil))) (Nat.le_of_ble_eq_true rfl)) ?_
  intro p e R s m args below meth c n0 k0 C hN hT ls hl
  have hx := C.1
  have hb := C.2.1
  simp only [zg_I, zg_R, zg_nil] at hl
  have hl : lv_has ls 4 [(0, va_rf a0), (1, .int a1), (2, va_rf a2)] := hl
  refine rk_rf ?_
  unfold fn_X0_letShare
  refine rk_of (fun _ _ _ _ _ k => lr_aload_n hx hb dX0_letShare_0 rfl (lv_at hl 2 rfl) (lv_iconst (v := 0) hx hb dX0_letShare_1 rfl (lr_aload_n hx hb dX0_letShare_2 rfl (lv_at hl 0 rfl) (lv_iload_n hx hb dX0_letShare_3 rfl (lv_at hl 1 rfl) k)))) ?_
  refine rk_cthF (cl_V (rest := [.int 0, va_rf a2]) (av := [.int a1]) C (hc_X1 H) (ct_X1_letShare H a0 a1) (lw_V q2536 q2537 q2538 q101 q2539) ⟨rfl, hd_X1_letShare⟩ ⟨(Nat.le_of_ble_eq_true rfl), (Nat.le_of_ble_eq_true rfl)⟩ rfl hl.1 rfl (zw_le (zw_I (zw_R zw_nil)) (Nat.le_of_ble_eq_true rfl)) dX0_letShare_4) (fun E4 q4 => ?_) (fun v4 => ?_)
  · refine rx_ite (fun h4_0 => ?_) (fun h4_0 => ?_)
    · refine rx_cat (k := 0) C hT rfl zp_nil ⟨by decide, by decide⟩ (by decide) q1373 ((zp_cons (P := fun E => (Cond.castable E "java/lang/IndexOutOfBoundsException").before args s = true) (zn_wC H C q360) (zp_cons (P := fun E => (Cond.castable E "java/lang/IndexOutOfBoundsException").before args s = true) (zn_wC H C q3093) (zp_cons (P := fun E => (Cond.castable E "java/lang/IndexOutOfBoundsException").before args s = true) (zn_wC H C q3094) zp_nil))) E4 h4_0) ?_
      refine rk_ofs (fun _ _ _ _ _ k => lr_astore_n hx hb dX0_letShare_12 rfl hl (Nat.le_of_ble_eq_true rfl) [] rfl trivial k) (fun ls hl => ?_)
      refine rk_of (fun _ _ _ _ _ k => lv_iconst (v := 1) hx hb dX0_letShare_13 rfl k) ?_
      exact rk_top (rf_iret C rfl dX0_letShare_14)
    · refine rx_ite (fun h4_x => ?_) (fun _ => rx_fl)
      exact rx_out C hT (zp_cons (Or.inr ⟨by decide, _, q1373, zh_ncs H C (L := ["java/lang/IllegalArgumentException", "java/util/NoSuchElementException", "java/lang/UnsupportedOperationException", "java/lang/IllegalStateException", "java/lang/ArithmeticException", "BoxSpans$Refusal", "BoxSpans$TextError"]) (by decide) h4_x⟩) zp_nil)
  refine rk_grd (fun hg_7 => ?_)
  refine rk_of (fun _ _ _ _ _ k => lv_f2d hx hb dX0_letShare_7 hg_7 k) ?_
  refine rk_dast C H.2.2.1 dX0_letShare_8 ?_
  refine rk_of (fun _ _ _ _ _ k => lv_goto (tgt := 15) hx hb dX0_letShare_9 (by decide) (lv_iconst (v := 0) hx hb dX0_letShare_15 rfl k)) ?_
  exact rk_top (rf_iret C rfl dX0_letShare_16)
theorem hd_J4_unlinkLast : yJ4_unlinkLast.cls ≠ "java/lang/invoke/MethodHandle" ∧ yJ4_unlinkLast.cls ≠ "java/lang/invoke/VarHandle" ∧ (parseMethodDescriptor yJ4_unlinkLast.desc).map (fun d => d.parameters.length) = some 1 := by decide +kernel
noncomputable def fn_J4_unlinkLast (K : zm_K) (a0 : zm_R) (a1 : zm_R) : zm_M zm_R :=
  zm_bnd (zm_getR a1 7 0) fun v1 =>
  zm_bnd (zm_getR a1 7 2) fun v6 =>
  zm_bnd (zm_putF K a1 7 0 (va_rf none)) fun _ =>
  zm_bnd (zm_putF K a1 7 2 (va_rf none)) fun _ =>
  zm_bnd (zm_putF K a0 1 3 (va_rf v6)) fun _ =>
  zm_bnd (α := Unit) (
      if v6 = none then
        zm_bnd (zm_putF K a0 1 2 (va_rf none)) fun _ =>
        zm_ret ()
      else
        zm_bnd (zm_putF K v6 7 1 (va_rf none)) fun _ =>
        zm_ret ()
    ) fun (_ : Unit) =>
  zm_bnd (zm_getI a0 1 1) fun v44 =>
  zm_bnd (zm_putF K a0 1 1 (.int (v44 - 1))) fun _ =>
  zm_bnd (zm_getI a0 1 0) fun v54 =>
  zm_bnd (zm_putF K a0 1 0 (.int (v54 + 1))) fun _ =>
  zm_ret v1
theorem ct_J4_unlinkLast {l : Launch} {Ω : zm_W} {K : zm_K} (H : zm_H Ω K) (a0 : zm_R) (a1 : zm_R) : zm_Ct l Ω yJ4_unlinkLast (ws_ yJ4_unlinkLast cJ4_unlinkLast 4 (Option.some (Jvm.ClassFile.FieldType.object "java/lang/Object"))) 1 64 [va_rf a0, va_rf a1] zm_tvR (fn_J4_unlinkLast K a0 a1) := by
  refine zm_ct H.1 (by decide +kernel) (zl_le (zl_R (zl_R zl_nil)) (Nat.le_of_ble_eq_true rfl)) ?_
  intro p e R s m args below meth c n0 k0 C hX ls hl
  have hx := C.1
  have hb := C.2.1
  simp only [zg_R, zg_nil] at hl
  have hl : lv_has ls 4 [(0, va_rf a0), (1, va_rf a1)] := hl
  refine rk_rf ?_
  unfold fn_J4_unlinkLast
  refine rk_of (fun _ _ _ _ _ k => lr_aload_n hx hb dJ4_unlinkLast_0 rfl (lv_at hl 1 rfl) k) ?_
  refine rk_get zm_rdR_eq C (hc_J18 H) (k := 0) (Nat.le_of_ble_eq_true rfl) in_J18 q1249 (fun _ h => h) dJ4_unlinkLast_1 (fun v1 => ?_)
  refine rk_ofs (fun _ _ _ _ _ k => lr_astore_n hx hb dJ4_unlinkLast_4 rfl hl (Nat.le_of_ble_eq_true rfl) [0, 1] rfl ⟨trivial, ⟨(by first | exact va_rf_cat _ | rfl), trivial⟩⟩ k) (fun ls hl => ?_)
  refine rk_of (fun _ _ _ _ _ k => lr_aload_n hx hb dJ4_unlinkLast_5 rfl (lv_at hl 2 rfl) k) ?_
  refine rk_get zm_rdR_eq C (hc_J18 H) (k := 2) (Nat.le_of_ble_eq_true rfl) in_J18 q1254 (fun _ h => h) dJ4_unlinkLast_6 (fun v6 => ?_)
  refine rk_ofs (fun _ _ _ _ _ k => lr_astore_n hx hb dJ4_unlinkLast_9 rfl hl (Nat.le_of_ble_eq_true rfl) [0, 1, 2] rfl ⟨(by first | exact va_rf_cat _ | rfl), ⟨trivial, ⟨trivial, trivial⟩⟩⟩ k) (fun ls hl => ?_)
  refine rk_of (fun _ _ _ _ _ k => lr_aload_n hx hb dJ4_unlinkLast_10 rfl (lv_at hl 3 rfl) (lr_null hx hb dJ4_unlinkLast_11 k)) ?_
  refine rk_put C H.2.2.1 (hc_J18 H) (k := 0) (Nat.le_of_ble_eq_true rfl) in_J18 (ty0 := tyJ18) tyJ18_ok nmJ18 q1249 (fun _ h => h) (Or.inl rfl) (zn_R rfl _) (zp_R rfl _) dJ4_unlinkLast_12 ?_
  refine rk_of (fun _ _ _ _ _ k => lr_aload_n hx hb dJ4_unlinkLast_15 rfl (lv_at hl 3 rfl) (lr_null hx hb dJ4_unlinkLast_16 k)) ?_
  refine rk_put C H.2.2.1 (hc_J18 H) (k := 2) (Nat.le_of_ble_eq_true rfl) in_J18 (ty0 := tyJ18) tyJ18_ok nmJ18 q1254 (fun _ h => h) (Or.inl rfl) (zn_R rfl _) (zp_R rfl _) dJ4_unlinkLast_17 ?_
  refine rk_of (fun _ _ _ _ _ k => lr_aload_n hx hb dJ4_unlinkLast_20 rfl (lv_at hl 2 rfl) (lr_aload_n hx hb dJ4_unlinkLast_21 rfl (lv_at hl 0 rfl) k)) ?_
  refine rk_put C H.2.2.1 (hc_J4 H) (k := 3) (Nat.le_of_ble_eq_true rfl) in_J4 (ty0 := tyJ4) tyJ4_ok nmJ4 q228 (fun _ h => h) (Or.inl rfl) (zn_R rfl _) (zp_R rfl _) dJ4_unlinkLast_22 ?_
  refine rk_of (fun _ _ _ _ _ k => lr_aload_n hx hb dJ4_unlinkLast_25 rfl (lv_at hl 0 rfl) k) ?_
  refine rk_join (β := Unit) (fun (b42 : Unit) ls => lv_has ls 4 [(0, va_rf a0), (2, va_rf v1)]) (fun (b42 : Unit) ls => F0 m 42 ls []) (fun b42 ls hl => ?_) (fun hJ42 => ?_)
  · refine rk_of (fun _ _ _ _ _ k => lr_aload_n hx hb dJ4_unlinkLast_42 rfl (lv_at hl 0 rfl) (lv_dup hx hb dJ4_unlinkLast_43 (va_rf_cat _) k)) ?_
    refine rk_get zm_rdI_eq C (hc_J4 H) (k := 1) (Nat.le_of_ble_eq_true rfl) in_J4 q225 (fun _ h => h) dJ4_unlinkLast_44 (fun v44 => ?_)
    refine rk_of (fun _ _ _ _ _ k => lv_iconst (v := 1) hx hb dJ4_unlinkLast_47 rfl (lv_isub hx hb dJ4_unlinkLast_48 k)) ?_
    refine rk_put C H.2.2.1 (hc_J4 H) (k := 1) (Nat.le_of_ble_eq_true rfl) in_J4 (ty0 := tyJ4) tyJ4_ok nmJ4 q225 (fun _ h => h) (Or.inl rfl) rfl rfl dJ4_unlinkLast_49 ?_
    refine rk_of (fun _ _ _ _ _ k => lr_aload_n hx hb dJ4_unlinkLast_52 rfl (lv_at hl 0 rfl) (lv_dup hx hb dJ4_unlinkLast_53 (va_rf_cat _) k)) ?_
    refine rk_get zm_rdI_eq C (hc_J4 H) (k := 0) (Nat.le_of_ble_eq_true rfl) in_J4 q188 (u_same (C.2.2.2.1 _ q184)) dJ4_unlinkLast_54 (fun v54 => ?_)
    refine rk_of (fun _ _ _ _ _ k => lv_iconst (v := 1) hx hb dJ4_unlinkLast_57 rfl (lv_iadd hx hb dJ4_unlinkLast_58 k)) ?_
    refine rk_put C H.2.2.1 (hc_J4 H) (k := 0) (Nat.le_of_ble_eq_true rfl) in_J4 (ty0 := tyJ4) tyJ4_ok nmJ4 q188 (u_same (C.2.2.2.1 _ q184)) (Or.inl rfl) rfl rfl dJ4_unlinkLast_59 ?_
    refine rk_of (fun _ _ _ _ _ k => lr_aload_n hx hb dJ4_unlinkLast_62 rfl (lv_at hl 1 rfl) k) ?_
    exact rk_top (rf_aret C (Or.inl ⟨_, rfl⟩) dJ4_unlinkLast_63)
  · refine rk_ite (fun _ _ _ _ _ k1 k2 => lr_ifnonnull (tgt := 37) hx hb dJ4_unlinkLast_26 (by decide) k2 k1) (fun c_26 => ?_) (fun c_26 => ?_)
    · refine rk_of (fun _ _ _ _ _ k => lr_aload_n hx hb dJ4_unlinkLast_29 rfl (lv_at hl 2 rfl) (lr_null hx hb dJ4_unlinkLast_30 k)) ?_
      refine rk_put C H.2.2.1 (hc_J4 H) (k := 2) (Nat.le_of_ble_eq_true rfl) in_J4 (ty0 := tyJ4) tyJ4_ok nmJ4 q227 (fun _ h => h) (Or.inl rfl) (zn_R rfl _) (zp_R rfl _) dJ4_unlinkLast_31 ?_
      refine rk_of (fun _ _ _ _ _ k => lv_goto (tgt := 42) hx hb dJ4_unlinkLast_34 (by decide) k) ?_
      exact hJ42 () ls (lv_sub hl [2, 1] rfl)
    · refine rk_of (fun _ _ _ _ _ k => lr_aload_n hx hb dJ4_unlinkLast_37 rfl (lv_at hl 0 rfl) (lr_null hx hb dJ4_unlinkLast_38 k)) ?_
      refine rk_put C H.2.2.1 (hc_J18 H) (k := 1) (Nat.le_of_ble_eq_true rfl) in_J18 (ty0 := tyJ18) tyJ18_ok nmJ18 q1252 (fun _ h => h) (Or.inl rfl) (zn_R rfl _) (zp_R rfl _) dJ4_unlinkLast_39 ?_
      exact hJ42 () ls (lv_sub hl [2, 1] rfl)
theorem hd_J4_removeLast : yJ4_removeLast.cls ≠ "java/lang/invoke/MethodHandle" ∧ yJ4_removeLast.cls ≠ "java/lang/invoke/VarHandle" ∧ (parseMethodDescriptor yJ4_removeLast.desc).map (fun d => d.parameters.length) = some 0 := by decide +kernel
noncomputable def fn_J4_removeLast (K : zm_K) (a0 : zm_R) : zm_M zm_R :=
  zm_bnd (zm_getR a0 1 3) fun v1 =>
  if v1 = none then
    zm_bnd (zm_new 12 [.null, .null, .null, .null, .null, .int 0]) fun v9 =>
    zm_bnd (fn_J26_init K (some v9)) fun _ =>
    zm_ath (some v9)
  else
    zm_bnd (zm_bnd (zm_is a0 1) fun _ => fn_J4_unlinkLast K a0 v1) fun v19 =>
    zm_ret v19
theorem ct_J4_removeLast {l : Launch} {Ω : zm_W} {K : zm_K} (H : zm_H Ω K) (a0 : zm_R) : zm_Ct l Ω yJ4_removeLast (ws_ yJ4_removeLast cJ4_removeLast 2 (Option.some (Jvm.ClassFile.FieldType.object "java/lang/Object"))) 8 208 [va_rf a0] zm_tvR (fn_J4_removeLast K a0) := by
  refine zm_ct H.1 (by decide +kernel) (zl_le (zl_R zl_nil) (Nat.le_of_ble_eq_true rfl)) ?_
  intro p e R s m args below meth c n0 k0 C hX ls hl
  have hx := C.1
  have hb := C.2.1
  simp only [zg_R, zg_nil] at hl
  have hl : lv_has ls 2 [(0, va_rf a0)] := hl
  refine rk_rf ?_
  unfold fn_J4_removeLast
  refine rk_of (fun _ _ _ _ _ k => lr_aload_n hx hb dJ4_removeLast_0 rfl (lv_at hl 0 rfl) k) ?_
  refine rk_get zm_rdR_eq C (hc_J4 H) (k := 3) (Nat.le_of_ble_eq_true rfl) in_J4 q228 (fun _ h => h) dJ4_removeLast_1 (fun v1 => ?_)
  refine rk_ofs (fun _ _ _ _ _ k => lr_astore_n hx hb dJ4_removeLast_4 rfl hl (Nat.le_of_ble_eq_true rfl) [0] rfl ⟨(by first | exact va_rf_cat _ | rfl), trivial⟩ k) (fun ls hl => ?_)
  refine rk_ite (fun _ _ _ _ _ k1 k2 => lr_aload_n hx hb dJ4_removeLast_5 rfl (lv_at hl 0 rfl) (lr_ifnonnull (tgt := 17) hx hb dJ4_removeLast_6 (by decide) k2 k1)) (fun c_6 => ?_) (fun c_6 => ?_)
  · refine rk_new C (hc_J26 H) in_J26 tyJ26_ok q1345 q787 q134 (fs := [.null, .null, .null, .null, .null, .int 0]) rfl (fun j hj => zdf_J26 j hj) dJ4_removeLast_9 (fun v9 => ?_)
    refine rk_of (fun _ _ _ _ _ k => lv_dup hx hb dJ4_removeLast_12 (va_rf_cat _) k) ?_
    refine rk_callV hX (cl_I (rest := [va_rf (some v9)]) C (ct_J26_init H (some v9)) (lw_meth q797) q134 q1346 q796 rfl hd_J26_init ⟨(Nat.le_of_ble_eq_true rfl), (Nat.le_of_ble_eq_true rfl)⟩ rfl hl.1 rfl (zw_le (zw_R zw_nil) (Nat.le_of_ble_eq_true rfl)) dJ4_removeLast_13) (fun _ => ?_)
    exact rk_ath H C hX dJ4_removeLast_16
  · refine rk_of (fun _ _ _ _ _ k => lr_aload_n hx hb dJ4_removeLast_17 rfl (lv_at hl 1 rfl) (lr_aload_n hx hb dJ4_removeLast_18 rfl (lv_at hl 0 rfl) k)) ?_
    refine rk_callR hX (cl_V (rest := []) (av := [va_rf v1]) C (hc_J4 H) (ct_J4_unlinkLast H a0 v1) (lw_V q2556 q2558 qs44 q107 q2559) ⟨rfl, hd_J4_unlinkLast⟩ ⟨(Nat.le_of_ble_eq_true rfl), (Nat.le_of_ble_eq_true rfl)⟩ rfl hl.1 rfl (zw_le zw_nil (Nat.le_of_ble_eq_true rfl)) dJ4_removeLast_19) (fun v19 => ?_)
    exact rk_top (rf_aret C (Or.inl ⟨_, rfl⟩) dJ4_removeLast_22)
theorem hd_X1_undo : yX1_undo.cls ≠ "java/lang/invoke/MethodHandle" ∧ yX1_undo.cls ≠ "java/lang/invoke/VarHandle" ∧ (parseMethodDescriptor yX1_undo.desc).map (fun d => d.parameters.length) = some 0 := by decide +kernel
noncomputable def fn_X1_undo (K : zm_K) (a0 : zm_R) : zm_M Int32 :=
  zm_bnd (zm_getR a0 18 2) fun v1 =>
  zm_bnd (zm_bnd (zm_is v1 1) fun _ => fn_J0_isEmpty K v1) fun v4 =>
  zm_bnd (α := Int32) (
      if v4 = 0 then
        zm_ret 1
      else
        zm_ret 0
    ) fun b15 =>
  zm_bnd (fn_X1_requireState K b15) fun _ =>
  zm_bnd (zm_getR a0 18 2) fun v20 =>
  zm_bnd (zm_bnd (zm_is v20 1) fun _ => fn_J4_removeLast K v20) fun v23 =>
  zm_bnd (zm_chk [19] [] v23) fun _ =>
  zm_bnd (zm_putF K a0 18 0 (va_rf v23)) fun _ =>
  zm_bnd (zm_getR a0 18 2) fun v33 =>
  zm_bnd (zm_bnd (zm_is v33 1) fun _ => fn_J4_size K v33) fun v36 =>
  zm_ret v36
theorem ct_X1_undo {l : Launch} {Ω : zm_W} {K : zm_K} (H : zm_H Ω K) (a0 : zm_R) : zm_Ct l Ω yX1_undo (ws_ yX1_undo cX1_undo 1 (Option.some Jvm.ClassFile.FieldType.int)) 9 229 [va_rf a0] zm_tvI (fn_X1_undo K a0) := by
  refine zm_ct H.1 (by decide +kernel) (zl_le (zl_R zl_nil) (Nat.le_of_ble_eq_true rfl)) ?_
  intro p e R s m args below meth c n0 k0 C hX ls hl
  have hx := C.1
  have hb := C.2.1
  simp only [zg_R, zg_nil] at hl
  have hl : lv_has ls 1 [(0, va_rf a0)] := hl
  refine rk_rf ?_
  unfold fn_X1_undo
  refine rk_of (fun _ _ _ _ _ k => lr_aload_n hx hb dX1_undo_0 rfl (lv_at hl 0 rfl) k) ?_
  refine rk_get zm_rdR_eq C (hc_X1 H) (k := 2) (Nat.le_of_ble_eq_true rfl) in_X1 q273 (fun _ h => h) dX1_undo_1 (fun v1 => ?_)
  refine rk_callI hX (cl_U (n := 0) (rest := []) (av := []) C (hc_J4 H) (ct_J0_isEmpty H v1) (lw_meth q1715) q103 q2548 (C.2.2.2.1 _ q2549) (va_Decl.of (C.2.2.2.1 _ q1713) (C.2.2.2.1 _ q1715)) (C.2.2.2.1 _ q2551) q1713 (by decide +kernel) ⟨(Nat.le_of_ble_eq_true rfl), (Nat.le_of_ble_eq_true rfl)⟩ rfl hl.1 rfl (zw_le zw_nil (Nat.le_of_ble_eq_true rfl)) dX1_undo_4) (fun v4 => ?_)
  refine rk_join (β := Int32) (fun (b15 : Int32) ls => lv_has ls 1 [(0, va_rf a0)]) (fun (b15 : Int32) ls => F0 m 15 ls [.int b15]) (fun b15 ls hl => ?_) (fun hJ15 => ?_)
  · refine rk_callV hX (cl_S (rest := []) C (ct_X1_requireState H b15) (lw_S q1926 q1927 q101 q1928) hd_X1_requireState ⟨(Nat.le_of_ble_eq_true rfl), (Nat.le_of_ble_eq_true rfl)⟩ rfl hl.1 rfl (zw_le zw_nil (Nat.le_of_ble_eq_true rfl)) dX1_undo_15) (fun _ => ?_)
    refine rk_of (fun _ _ _ _ _ k => lr_aload_n hx hb dX1_undo_18 rfl (lv_at hl 0 rfl) (lr_aload_n hx hb dX1_undo_19 rfl (lv_at hl 0 rfl) k)) ?_
    refine rk_get zm_rdR_eq C (hc_X1 H) (k := 2) (Nat.le_of_ble_eq_true rfl) in_X1 q273 (fun _ h => h) dX1_undo_20 (fun v20 => ?_)
    refine rk_callR hX (cl_V (rest := [va_rf a0]) (av := []) C (hc_J4 H) (ct_J4_removeLast H v20) (lw_V q2552 q2553 q2554 q107 q2555) ⟨rfl, hd_J4_removeLast⟩ ⟨(Nat.le_of_ble_eq_true rfl), (Nat.le_of_ble_eq_true rfl)⟩ rfl hl.1 rfl (zw_le (zw_R zw_nil) (Nat.le_of_ble_eq_true rfl)) dX1_undo_23) (fun v23 => ?_)
    refine rk_chk C q158 (zc_cons (zc_s (hc_X2 H)) zc_nil) zp_nil dX1_undo_26 ?_
    refine rk_put C H.2.2.1 (hc_X1 H) (k := 0) (Nat.le_of_ble_eq_true rfl) in_X1 (ty0 := tyX1) tyX1_ok nmX1 q271 (fun _ h => h) (Or.inl rfl) (zn_R rfl _) (zp_R rfl _) dX1_undo_29 ?_
    refine rk_of (fun _ _ _ _ _ k => lr_aload_n hx hb dX1_undo_32 rfl (lv_at hl 0 rfl) k) ?_
    refine rk_get zm_rdR_eq C (hc_X1 H) (k := 2) (Nat.le_of_ble_eq_true rfl) in_X1 q273 (fun _ h => h) dX1_undo_33 (fun v33 => ?_)
    refine rk_callI hX (cl_V (rest := []) (av := []) C (hc_J4 H) (ct_J4_size H v33) (lw_V q1340 q755 q3081 q107 q756) ⟨rfl, hd_J4_size⟩ ⟨(Nat.le_of_ble_eq_true rfl), (Nat.le_of_ble_eq_true rfl)⟩ rfl hl.1 rfl (zw_le zw_nil (Nat.le_of_ble_eq_true rfl)) dX1_undo_36) (fun v36 => ?_)
    exact rk_top (rf_iret C rfl dX1_undo_39)
  · refine rk_ite (fun _ _ _ _ _ k1 k2 => lv_if_ne (tgt := 14) hx hb dX1_undo_7 (by decide) k2 k1) (fun c_7 => ?_) (fun c_7 => ?_)
    · refine rk_of (fun _ _ _ _ _ k => lv_iconst (v := 1) hx hb dX1_undo_10 rfl (lv_goto (tgt := 15) hx hb dX1_undo_11 (by decide) k)) ?_
      exact hJ15 1 ls (lv_sub hl [0] rfl)
    · refine rk_of (fun _ _ _ _ _ k => lv_iconst (v := 0) hx hb dX1_undo_14 rfl k) ?_
      exact hJ15 0 ls (lv_sub hl [0] rfl)
theorem hd_X0_undo : yX0_undo.cls ≠ "java/lang/invoke/MethodHandle" ∧ yX0_undo.cls ≠ "java/lang/invoke/VarHandle" ∧ (parseMethodDescriptor yX0_undo.desc).map (fun d => d.parameters.length) = some 2 := by decide +kernel
noncomputable def fn_X0_undo (K : zm_K) (a0 : zm_R) (a1 : zm_R) : zm_M Int32 :=
  zm_cth (zm_bnd (zm_is a0 18) fun _ => fn_X1_undo K a0) (fun (E3 : String) (q3 : Nat) =>
      if E3 ∈ (["java/lang/IllegalStateException"] : List String) then
        zm_ret 1
      else
        if E3 ∈ (["java/lang/IllegalArgumentException", "java/lang/IndexOutOfBoundsException", "java/util/NoSuchElementException", "java/lang/UnsupportedOperationException", "java/lang/ArrayIndexOutOfBoundsException", "java/lang/StringIndexOutOfBoundsException", "java/lang/ArithmeticException", "BoxSpans$Refusal", "BoxSpans$TextError"] : List String) then
          zm_thr E3 q3
        else
          zm_fl
    ) fun v3 =>
  zm_bnd (zm_astJ K a1 0 ((v3).toInt64)) fun _ =>
  zm_ret 0
theorem ct_X0_undo {l : Launch} {Ω : zm_W} {K : zm_K} (H : zm_H Ω K) (a0 : zm_R) (a1 : zm_R) : zm_Ct l Ω yX0_undo (wsW_ yX0_undo cX0_undo 3 (Option.some Jvm.ClassFile.FieldType.int) [(0, 8, 11, 93)]) 10 249 [va_rf a0, va_rf a1] zm_tvI (fn_X0_undo K a0 a1) := by
  refine zm_ctW H.1 (by decide +kernel) (zl_le (zl_R (zl_R zl_nil)) (Nat.le_of_ble_eq_true rfl)) ?_
  intro p e R s m args below meth c n0 k0 C hN hT ls hl
  have hx := C.1
  have hb := C.2.1
  simp only [zg_R, zg_nil] at hl
  have hl : lv_has ls 3 [(0, va_rf a0), (1, va_rf a1)] := hl
  refine rk_rf ?_
  unfold fn_X0_undo
  refine rk_of (fun _ _ _ _ _ k => lr_aload_n hx hb dX0_undo_0 rfl (lv_at hl 1 rfl) (lv_iconst (v := 0) hx hb dX0_undo_1 rfl (lr_aload_n hx hb dX0_undo_2 rfl (lv_at hl 0 rfl) k))) ?_
  refine rk_cthI (cl_V (rest := [.int 0, va_rf a1]) (av := []) C (hc_X1 H) (ct_X1_undo H a0) (lw_V q2544 q2545 q2546 q101 q2547) ⟨rfl, hd_X1_undo⟩ ⟨(Nat.le_of_ble_eq_true rfl), (Nat.le_of_ble_eq_true rfl)⟩ rfl hl.1 rfl (zw_le (zw_I (zw_R zw_nil)) (Nat.le_of_ble_eq_true rfl)) dX0_undo_3) (fun E3 q3 => ?_) (fun v3 => ?_)
  · refine rx_ite (fun h3_0 => ?_) (fun h3_0 => ?_)
    · refine rx_cat (k := 0) C hT rfl zp_nil ⟨by decide, by decide⟩ (by decide) q1920 ((zp_cons (P := fun E => (Cond.castable E "java/lang/IllegalStateException").before args s = true) (zn_wC H C q1931) zp_nil) E3 h3_0) ?_
      refine rk_ofs (fun _ _ _ _ _ k => lr_astore_n hx hb dX0_undo_11 rfl hl (Nat.le_of_ble_eq_true rfl) [] rfl trivial k) (fun ls hl => ?_)
      refine rk_of (fun _ _ _ _ _ k => lv_iconst (v := 1) hx hb dX0_undo_12 rfl k) ?_
      exact rk_top (rf_iret C rfl dX0_undo_13)
    · refine rx_ite (fun h3_x => ?_) (fun _ => rx_fl)
      exact rx_out C hT (zp_cons (Or.inr ⟨by decide, _, q1920, zh_ncs H C (L := ["java/lang/IllegalArgumentException", "java/lang/IndexOutOfBoundsException", "java/util/NoSuchElementException", "java/lang/UnsupportedOperationException", "java/lang/ArrayIndexOutOfBoundsException", "java/lang/StringIndexOutOfBoundsException", "java/lang/ArithmeticException", "BoxSpans$Refusal", "BoxSpans$TextError"]) (by decide) h3_x⟩) zp_nil)
  refine rk_of (fun _ _ _ _ _ k => lv_i2l hx hb dX0_undo_6 rfl k) ?_
  refine rk_last C H.2.2.1 dX0_undo_7 ?_
  refine rk_of (fun _ _ _ _ _ k => lv_goto (tgt := 14) hx hb dX0_undo_8 (by decide) (lv_iconst (v := 0) hx hb dX0_undo_14 rfl k)) ?_
  exact rk_top (rf_iret C rfl dX0_undo_15)
theorem hd_X1_save : yX1_save.cls ≠ "java/lang/invoke/MethodHandle" ∧ yX1_save.cls ≠ "java/lang/invoke/VarHandle" ∧ (parseMethodDescriptor yX1_save.desc).map (fun d => d.parameters.length) = some 0 := by decide +kernel
noncomputable def fn_X1_save (K : zm_K) (a0 : zm_R) : zm_M Int32 :=
  zm_bnd (zm_getR a0 18 0) fun v2 =>
  zm_bnd (zm_putF K a0 18 1 (va_rf v2)) fun _ =>
  zm_bnd (zm_getR a0 18 0) fun v9 =>
  zm_bnd (zm_bnd (zm_is v9 19) fun _ => fn_X2_ofAll K v9 0) fun v13 =>
  zm_ret v13
theorem ct_X1_save {l : Launch} {Ω : zm_W} {K : zm_K} (H : zm_H Ω K) (a0 : zm_R) : zm_Ct l Ω yX1_save (ws_ yX1_save cX1_save 1 (Option.some Jvm.ClassFile.FieldType.int)) 19 464 [va_rf a0] zm_tvI (fn_X1_save K a0) := by
  refine zm_ct H.1 (by decide +kernel) (zl_le (zl_R zl_nil) (Nat.le_of_ble_eq_true rfl)) ?_
  intro p e R s m args below meth c n0 k0 C hX ls hl
  have hx := C.1
  have hb := C.2.1
  simp only [zg_R, zg_nil] at hl
  have hl : lv_has ls 1 [(0, va_rf a0)] := hl
  refine rk_rf ?_
  unfold fn_X1_save
  refine rk_of (fun _ _ _ _ _ k => lr_aload_n hx hb dX1_save_0 rfl (lv_at hl 0 rfl) (lr_aload_n hx hb dX1_save_1 rfl (lv_at hl 0 rfl) k)) ?_
  refine rk_get zm_rdR_eq C (hc_X1 H) (k := 0) (Nat.le_of_ble_eq_true rfl) in_X1 q271 (fun _ h => h) dX1_save_2 (fun v2 => ?_)
  refine rk_put C H.2.2.1 (hc_X1 H) (k := 1) (Nat.le_of_ble_eq_true rfl) in_X1 (ty0 := tyX1) tyX1_ok nmX1 q272 (fun _ h => h) (Or.inl rfl) (zn_R rfl _) (zp_R rfl _) dX1_save_5 ?_
  refine rk_of (fun _ _ _ _ _ k => lr_aload_n hx hb dX1_save_8 rfl (lv_at hl 0 rfl) k) ?_
  refine rk_get zm_rdR_eq C (hc_X1 H) (k := 0) (Nat.le_of_ble_eq_true rfl) in_X1 q271 (fun _ h => h) dX1_save_9 (fun v9 => ?_)
  refine rk_of (fun _ _ _ _ _ k => lv_iconst (v := 0) hx hb dX1_save_12 rfl k) ?_
  refine rk_callI hX (cl_V (rest := []) (av := [.int 0]) C (hc_X2 H) (ct_X2_ofAll H v9 0) (lw_V q1122 q1102 q1103 q102 q1104) ⟨rfl, hd_X2_ofAll⟩ ⟨(Nat.le_of_ble_eq_true rfl), (Nat.le_of_ble_eq_true rfl)⟩ rfl hl.1 rfl (zw_le zw_nil (Nat.le_of_ble_eq_true rfl)) dX1_save_13) (fun v13 => ?_)
  exact rk_top (rf_iret C rfl dX1_save_16)
theorem hd_J4_clear : yJ4_clear.cls ≠ "java/lang/invoke/MethodHandle" ∧ yJ4_clear.cls ≠ "java/lang/invoke/VarHandle" ∧ (parseMethodDescriptor yJ4_clear.desc).map (fun d => d.parameters.length) = some 0 := by decide +kernel
noncomputable def fn_J4_clear_5 (K : zm_K) (p0 : zm_R) : Nat → zm_R → zm_M (Unit)
  | 0, _ => zm_fl
  | n + 1, x1 =>
    if x1 = none then
      zm_ret ()
    else
      zm_bnd (zm_getR x1 7 1) fun v10 =>
      zm_bnd (zm_putF K x1 7 0 (va_rf none)) fun _ =>
      zm_bnd (zm_putF K x1 7 1 (va_rf none)) fun _ =>
      zm_bnd (zm_putF K x1 7 2 (va_rf none)) fun _ =>
      fn_J4_clear_5 K p0 n v10
noncomputable def fn_J4_clear (K : zm_K) (a0 : zm_R) : zm_M Unit :=
  zm_bnd (zm_getR a0 1 2) fun v1 =>
  zm_bnd (α := Unit) (fn_J4_clear_5 K a0 zm_N v1) fun (_ : Unit) =>
  zm_bnd (zm_putF K a0 1 3 (va_rf none)) fun _ =>
  zm_bnd (zm_putF K a0 1 2 (va_rf none)) fun _ =>
  zm_bnd (zm_putF K a0 1 1 (.int 0)) fun _ =>
  zm_bnd (zm_getI a0 1 0) fun v51 =>
  zm_bnd (zm_putF K a0 1 0 (.int (v51 + 1))) fun _ =>
  zm_ret ()
theorem rf_J4_clear_5 (H : zm_H Ω K) (C : zm_C p l R s m args meth c Ω lw_all cJ4_clear yJ4_clear.cls yJ4_clear.name 3 1 64 (Option.none : Option Jvm.ClassFile.FieldType)) (hX : zm_XO p l e R s m args below meth c Ω n0 k0 (zm_QFs below args s Ω n0 k0 zm_tvV)) (p0 : zm_R) : ∀ (n : Nat) (x1 : zm_R) (J : (Unit) → zm_M Unit) (ls : Array Slot), lv_has ls 3 [(0, va_rf p0), (1, va_rf x1)] → (∀ (b : Unit) (ls : Array Slot), lv_has ls 3 [(0, va_rf p0)] → zm_RK p l e R s m args below meth c Ω n0 k0 (zm_QFs below args s Ω n0 k0 zm_tvV) (zm_ret b) J (F0 m 34 ls [])) → zm_RK p l e R s m args below meth c Ω n0 k0 (zm_QFs below args s Ω n0 k0 zm_tvV) (fn_J4_clear_5 K p0 n x1) J (F0 m 5 ls []) := by
  have hx := C.1
  have hb := C.2.1
  intro n
  induction n with
  | zero => intro x1 J ls hl hJ; exact rk_fl
  | succ n ih =>
    intro x1 J ls hl hJ
    unfold fn_J4_clear_5
    refine rk_ite (fun _ _ _ _ _ k1 k2 => lr_aload_n hx hb dJ4_clear_5 rfl (lv_at hl 1 rfl) (lr_ifnull (tgt := 34) hx hb dJ4_clear_6 (by decide) k1 k2)) (fun c_6 => ?_) (fun c_6 => ?_)
    · exact hJ () ls (lv_sub hl [0] rfl)
    · refine rk_of (fun _ _ _ _ _ k => lr_aload_n hx hb dJ4_clear_9 rfl (lv_at hl 1 rfl) k) ?_
      refine rk_get zm_rdR_eq C (hc_J18 H) (k := 1) (Nat.le_of_ble_eq_true rfl) in_J18 q1252 (fun _ h => h) dJ4_clear_10 (fun v10 => ?_)
      refine rk_ofs (fun _ _ _ _ _ k => lr_astore_n hx hb dJ4_clear_13 rfl hl (Nat.le_of_ble_eq_true rfl) [0, 1] rfl ⟨trivial, ⟨(by first | exact va_rf_cat _ | rfl), trivial⟩⟩ k) (fun ls hl => ?_)
      refine rk_of (fun _ _ _ _ _ k => lr_aload_n hx hb dJ4_clear_14 rfl (lv_at hl 2 rfl) (lr_null hx hb dJ4_clear_15 k)) ?_
      refine rk_put C H.2.2.1 (hc_J18 H) (k := 0) (Nat.le_of_ble_eq_true rfl) in_J18 (ty0 := tyJ18) tyJ18_ok nmJ18 q1249 (fun _ h => h) (Or.inl rfl) (zn_R rfl _) (zp_R rfl _) dJ4_clear_16 ?_
      refine rk_of (fun _ _ _ _ _ k => lr_aload_n hx hb dJ4_clear_19 rfl (lv_at hl 2 rfl) (lr_null hx hb dJ4_clear_20 k)) ?_
      refine rk_put C H.2.2.1 (hc_J18 H) (k := 1) (Nat.le_of_ble_eq_true rfl) in_J18 (ty0 := tyJ18) tyJ18_ok nmJ18 q1252 (fun _ h => h) (Or.inl rfl) (zn_R rfl _) (zp_R rfl _) dJ4_clear_21 ?_
      refine rk_of (fun _ _ _ _ _ k => lr_aload_n hx hb dJ4_clear_24 rfl (lv_at hl 2 rfl) (lr_null hx hb dJ4_clear_25 k)) ?_
      refine rk_put C H.2.2.1 (hc_J18 H) (k := 2) (Nat.le_of_ble_eq_true rfl) in_J18 (ty0 := tyJ18) tyJ18_ok nmJ18 q1254 (fun _ h => h) (Or.inl rfl) (zn_R rfl _) (zp_R rfl _) dJ4_clear_26 ?_
      refine rk_ofs (fun _ _ _ _ _ k => lr_aload_n hx hb dJ4_clear_29 rfl (lv_at hl 0 rfl) (lr_astore_n hx hb dJ4_clear_30 rfl hl (Nat.le_of_ble_eq_true rfl) [1] rfl ⟨(by first | exact va_rf_cat _ | rfl), trivial⟩ k)) (fun ls hl => ?_)
      refine rk_of (fun _ _ _ _ _ k => lv_goto (tgt := 5) hx hb dJ4_clear_31 (by decide) k) ?_
      exact ih v10 J ls (lv_sub hl [1, 0] rfl) hJ
theorem ct_J4_clear {l : Launch} {Ω : zm_W} {K : zm_K} (H : zm_H Ω K) (a0 : zm_R) : zm_Ct l Ω yJ4_clear (ws_ yJ4_clear cJ4_clear 3 (Option.none : Option Jvm.ClassFile.FieldType)) 1 64 [va_rf a0] zm_tvV (fn_J4_clear K a0) := by
  refine zm_ct H.1 (by decide +kernel) (zl_le (zl_R zl_nil) (Nat.le_of_ble_eq_true rfl)) ?_
  intro p e R s m args below meth c n0 k0 C hX ls hl
  have hx := C.1
  have hb := C.2.1
  simp only [zg_R, zg_nil] at hl
  have hl : lv_has ls 3 [(0, va_rf a0)] := hl
  refine rk_rf ?_
  unfold fn_J4_clear
  refine rk_of (fun _ _ _ _ _ k => lr_aload_n hx hb dJ4_clear_0 rfl (lv_at hl 0 rfl) k) ?_
  refine rk_get zm_rdR_eq C (hc_J4 H) (k := 2) (Nat.le_of_ble_eq_true rfl) in_J4 q227 (fun _ h => h) dJ4_clear_1 (fun v1 => ?_)
  refine rk_ofs (fun _ _ _ _ _ k => lr_astore_n hx hb dJ4_clear_4 rfl hl (Nat.le_of_ble_eq_true rfl) [0] rfl ⟨(by first | exact va_rf_cat _ | rfl), trivial⟩ k) (fun ls hl => ?_)
  refine rk_join (β := Unit) (fun (b34 : Unit) ls => lv_has ls 3 [(0, va_rf a0)]) (fun (b34 : Unit) ls => F0 m 34 ls []) (fun b34 ls hl => ?_) (fun hJ34 => ?_)
  · refine rk_of (fun _ _ _ _ _ k => lr_aload_n hx hb dJ4_clear_34 rfl (lv_at hl 0 rfl) (lr_aload_n hx hb dJ4_clear_35 rfl (lv_at hl 0 rfl) (lr_null hx hb dJ4_clear_36 (lv_dup_x1 hx hb dJ4_clear_37 (va_rf_cat _) (va_rf_cat _) k)))) ?_
    refine rk_put C H.2.2.1 (hc_J4 H) (k := 3) (Nat.le_of_ble_eq_true rfl) in_J4 (ty0 := tyJ4) tyJ4_ok nmJ4 q228 (fun _ h => h) (Or.inl rfl) (zn_R rfl _) (zp_R rfl _) dJ4_clear_38 ?_
    refine rk_put C H.2.2.1 (hc_J4 H) (k := 2) (Nat.le_of_ble_eq_true rfl) in_J4 (ty0 := tyJ4) tyJ4_ok nmJ4 q227 (fun _ h => h) (Or.inl rfl) (zn_R rfl _) (zp_R rfl _) dJ4_clear_41 ?_
    refine rk_of (fun _ _ _ _ _ k => lr_aload_n hx hb dJ4_clear_44 rfl (lv_at hl 0 rfl) (lv_iconst (v := 0) hx hb dJ4_clear_45 rfl k)) ?_
    refine rk_put C H.2.2.1 (hc_J4 H) (k := 1) (Nat.le_of_ble_eq_true rfl) in_J4 (ty0 := tyJ4) tyJ4_ok nmJ4 q225 (fun _ h => h) (Or.inl rfl) rfl rfl dJ4_clear_46 ?_
    refine rk_of (fun _ _ _ _ _ k => lr_aload_n hx hb dJ4_clear_49 rfl (lv_at hl 0 rfl) (lv_dup hx hb dJ4_clear_50 (va_rf_cat _) k)) ?_
    refine rk_get zm_rdI_eq C (hc_J4 H) (k := 0) (Nat.le_of_ble_eq_true rfl) in_J4 q188 (u_same (C.2.2.2.1 _ q184)) dJ4_clear_51 (fun v51 => ?_)
    refine rk_of (fun _ _ _ _ _ k => lv_iconst (v := 1) hx hb dJ4_clear_54 rfl (lv_iadd hx hb dJ4_clear_55 k)) ?_
    refine rk_put C H.2.2.1 (hc_J4 H) (k := 0) (Nat.le_of_ble_eq_true rfl) in_J4 (ty0 := tyJ4) tyJ4_ok nmJ4 q188 (u_same (C.2.2.2.1 _ q184)) (Or.inl rfl) rfl rfl dJ4_clear_56 ?_
    exact rk_top (rf_vret C dJ4_clear_59)
  · exact rf_J4_clear_5 H C hX a0 zm_N v1 _ ls (lv_sub hl [1, 0] rfl) hJ34
theorem hd_X1_restore : yX1_restore.cls ≠ "java/lang/invoke/MethodHandle" ∧ yX1_restore.cls ≠ "java/lang/invoke/VarHandle" ∧ (parseMethodDescriptor yX1_restore.desc).map (fun d => d.parameters.length) = some 0 := by decide +kernel
noncomputable def fn_X1_restore (K : zm_K) (a0 : zm_R) : zm_M Int32 :=
  zm_bnd (zm_getR a0 18 1) fun v1 =>
  zm_bnd (α := Int32) (
      if v1 = none then
        zm_ret 0
      else
        zm_ret 1
    ) fun b12 =>
  zm_bnd (fn_X1_requireState K b12) fun _ =>
  zm_bnd (zm_getR a0 18 1) fun v17 =>
  zm_bnd (zm_putF K a0 18 0 (va_rf v17)) fun _ =>
  zm_bnd (zm_getR a0 18 2) fun v24 =>
  zm_bnd (zm_bnd (zm_is v24 1) fun _ => fn_J4_clear K v24) fun _ =>
  zm_bnd (zm_getR a0 18 0) fun v31 =>
  zm_bnd (zm_bnd (zm_is v31 19) fun _ => fn_X2_ofAll K v31 0) fun v35 =>
  zm_ret v35
theorem ct_X1_restore {l : Launch} {Ω : zm_W} {K : zm_K} (H : zm_H Ω K) (a0 : zm_R) : zm_Ct l Ω yX1_restore (ws_ yX1_restore cX1_restore 1 (Option.some Jvm.ClassFile.FieldType.int)) 19 464 [va_rf a0] zm_tvI (fn_X1_restore K a0) := by
  refine zm_ct H.1 (by decide +kernel) (zl_le (zl_R zl_nil) (Nat.le_of_ble_eq_true rfl)) ?_
  intro p e R s m args below meth c n0 k0 C hX ls hl
  have hx := C.1
  have hb := C.2.1
  simp only [zg_R, zg_nil] at hl
  have hl : lv_has ls 1 [(0, va_rf a0)] := hl
  refine rk_rf ?_
  unfold fn_X1_restore
  refine rk_of (fun _ _ _ _ _ k => lr_aload_n hx hb dX1_restore_0 rfl (lv_at hl 0 rfl) k) ?_
  refine rk_get zm_rdR_eq C (hc_X1 H) (k := 1) (Nat.le_of_ble_eq_true rfl) in_X1 q272 (fun _ h => h) dX1_restore_1 (fun v1 => ?_)
  refine rk_join (β := Int32) (fun (b12 : Int32) ls => lv_has ls 1 [(0, va_rf a0)]) (fun (b12 : Int32) ls => F0 m 12 ls [.int b12]) (fun b12 ls hl => ?_) (fun hJ12 => ?_)
  · refine rk_callV hX (cl_S (rest := []) C (ct_X1_requireState H b12) (lw_S q1926 q1927 q101 q1928) hd_X1_requireState ⟨(Nat.le_of_ble_eq_true rfl), (Nat.le_of_ble_eq_true rfl)⟩ rfl hl.1 rfl (zw_le zw_nil (Nat.le_of_ble_eq_true rfl)) dX1_restore_12) (fun _ => ?_)
    refine rk_of (fun _ _ _ _ _ k => lr_aload_n hx hb dX1_restore_15 rfl (lv_at hl 0 rfl) (lr_aload_n hx hb dX1_restore_16 rfl (lv_at hl 0 rfl) k)) ?_
    refine rk_get zm_rdR_eq C (hc_X1 H) (k := 1) (Nat.le_of_ble_eq_true rfl) in_X1 q272 (fun _ h => h) dX1_restore_17 (fun v17 => ?_)
    refine rk_put C H.2.2.1 (hc_X1 H) (k := 0) (Nat.le_of_ble_eq_true rfl) in_X1 (ty0 := tyX1) tyX1_ok nmX1 q271 (fun _ h => h) (Or.inl rfl) (zn_R rfl _) (zp_R rfl _) dX1_restore_20 ?_
    refine rk_of (fun _ _ _ _ _ k => lr_aload_n hx hb dX1_restore_23 rfl (lv_at hl 0 rfl) k) ?_
    refine rk_get zm_rdR_eq C (hc_X1 H) (k := 2) (Nat.le_of_ble_eq_true rfl) in_X1 q273 (fun _ h => h) dX1_restore_24 (fun v24 => ?_)
    refine rk_callV hX (cl_V (rest := []) (av := []) C (hc_J4 H) (ct_J4_clear H v24) (lw_V q2567 q2568 q2569 q107 q2570) ⟨rfl, hd_J4_clear⟩ ⟨(Nat.le_of_ble_eq_true rfl), (Nat.le_of_ble_eq_true rfl)⟩ rfl hl.1 rfl (zw_le zw_nil (Nat.le_of_ble_eq_true rfl)) dX1_restore_27) (fun _ => ?_)
    refine rk_of (fun _ _ _ _ _ k => lr_aload_n hx hb dX1_restore_30 rfl (lv_at hl 0 rfl) k) ?_
    refine rk_get zm_rdR_eq C (hc_X1 H) (k := 0) (Nat.le_of_ble_eq_true rfl) in_X1 q271 (fun _ h => h) dX1_restore_31 (fun v31 => ?_)
    refine rk_of (fun _ _ _ _ _ k => lv_iconst (v := 0) hx hb dX1_restore_34 rfl k) ?_
    refine rk_callI hX (cl_V (rest := []) (av := [.int 0]) C (hc_X2 H) (ct_X2_ofAll H v31 0) (lw_V q1122 q1102 q1103 q102 q1104) ⟨rfl, hd_X2_ofAll⟩ ⟨(Nat.le_of_ble_eq_true rfl), (Nat.le_of_ble_eq_true rfl)⟩ rfl hl.1 rfl (zw_le zw_nil (Nat.le_of_ble_eq_true rfl)) dX1_restore_35) (fun v35 => ?_)
    exact rk_top (rf_iret C rfl dX1_restore_38)
  · refine rk_ite (fun _ _ _ _ _ k1 k2 => lr_ifnull (tgt := 11) hx hb dX1_restore_4 (by decide) k1 k2) (fun c_4 => ?_) (fun c_4 => ?_)
    · refine rk_of (fun _ _ _ _ _ k => lv_iconst (v := 0) hx hb dX1_restore_11 rfl k) ?_
      exact hJ12 0 ls (lv_sub hl [0] rfl)
    · refine rk_of (fun _ _ _ _ _ k => lv_iconst (v := 1) hx hb dX1_restore_7 rfl (lv_goto (tgt := 12) hx hb dX1_restore_8 (by decide) k)) ?_
      exact hJ12 1 ls (lv_sub hl [0] rfl)
theorem hd_X0_restore : yX0_restore.cls ≠ "java/lang/invoke/MethodHandle" ∧ yX0_restore.cls ≠ "java/lang/invoke/VarHandle" ∧ (parseMethodDescriptor yX0_restore.desc).map (fun d => d.parameters.length) = some 2 := by decide +kernel
noncomputable def fn_X0_restore (K : zm_K) (a0 : zm_R) (a1 : zm_R) : zm_M Int32 :=
  zm_cth (zm_bnd (zm_is a0 18) fun _ => fn_X1_restore K a0) (fun (E3 : String) (q3 : Nat) =>
      if E3 ∈ (["java/lang/IllegalStateException"] : List String) then
        zm_ret 1
      else
        if E3 ∈ (["java/lang/IllegalArgumentException", "java/lang/IndexOutOfBoundsException", "java/util/NoSuchElementException", "java/lang/UnsupportedOperationException", "java/lang/ArrayIndexOutOfBoundsException", "java/lang/StringIndexOutOfBoundsException", "java/lang/ArithmeticException", "BoxSpans$Refusal", "BoxSpans$TextError"] : List String) then
          zm_thr E3 q3
        else
          zm_fl
    ) fun v3 =>
  zm_bnd (zm_astJ K a1 0 ((v3).toInt64)) fun _ =>
  zm_ret 0
theorem ct_X0_restore {l : Launch} {Ω : zm_W} {K : zm_K} (H : zm_H Ω K) (a0 : zm_R) (a1 : zm_R) : zm_Ct l Ω yX0_restore (wsW_ yX0_restore cX0_restore 3 (Option.some Jvm.ClassFile.FieldType.int) [(0, 8, 11, 93)]) 20 484 [va_rf a0, va_rf a1] zm_tvI (fn_X0_restore K a0 a1) := by
  refine zm_ctW H.1 (by decide +kernel) (zl_le (zl_R (zl_R zl_nil)) (Nat.le_of_ble_eq_true rfl)) ?_
  intro p e R s m args below meth c n0 k0 C hN hT ls hl
  have hx := C.1
  have hb := C.2.1
  simp only [zg_R, zg_nil] at hl
  have hl : lv_has ls 3 [(0, va_rf a0), (1, va_rf a1)] := hl
  refine rk_rf ?_
  unfold fn_X0_restore
  refine rk_of (fun _ _ _ _ _ k => lr_aload_n hx hb dX0_restore_0 rfl (lv_at hl 1 rfl) (lv_iconst (v := 0) hx hb dX0_restore_1 rfl (lr_aload_n hx hb dX0_restore_2 rfl (lv_at hl 0 rfl) k))) ?_
  refine rk_cthI (cl_V (rest := [.int 0, va_rf a1]) (av := []) C (hc_X1 H) (ct_X1_restore H a0) (lw_V q2563 q2564 q2565 q101 q2566) ⟨rfl, hd_X1_restore⟩ ⟨(Nat.le_of_ble_eq_true rfl), (Nat.le_of_ble_eq_true rfl)⟩ rfl hl.1 rfl (zw_le (zw_I (zw_R zw_nil)) (Nat.le_of_ble_eq_true rfl)) dX0_restore_3) (fun E3 q3 => ?_) (fun v3 => ?_)
  · refine rx_ite (fun h3_0 => ?_) (fun h3_0 => ?_)
    · refine rx_cat (k := 0) C hT rfl zp_nil ⟨by decide, by decide⟩ (by decide) q1920 ((zp_cons (P := fun E => (Cond.castable E "java/lang/IllegalStateException").before args s = true) (zn_wC H C q1931) zp_nil) E3 h3_0) ?_
      refine rk_ofs (fun _ _ _ _ _ k => lr_astore_n hx hb dX0_restore_11 rfl hl (Nat.le_of_ble_eq_true rfl) [] rfl trivial k) (fun ls hl => ?_)
      refine rk_of (fun _ _ _ _ _ k => lv_iconst (v := 1) hx hb dX0_restore_12 rfl k) ?_
      exact rk_top (rf_iret C rfl dX0_restore_13)
    · refine rx_ite (fun h3_x => ?_) (fun _ => rx_fl)
      exact rx_out C hT (zp_cons (Or.inr ⟨by decide, _, q1920, zh_ncs H C (L := ["java/lang/IllegalArgumentException", "java/lang/IndexOutOfBoundsException", "java/util/NoSuchElementException", "java/lang/UnsupportedOperationException", "java/lang/ArrayIndexOutOfBoundsException", "java/lang/StringIndexOutOfBoundsException", "java/lang/ArithmeticException", "BoxSpans$Refusal", "BoxSpans$TextError"]) (by decide) h3_x⟩) zp_nil)
  refine rk_of (fun _ _ _ _ _ k => lv_i2l hx hb dX0_restore_6 rfl k) ?_
  refine rk_last C H.2.2.1 dX0_restore_7 ?_
  refine rk_of (fun _ _ _ _ _ k => lv_goto (tgt := 14) hx hb dX0_restore_8 (by decide) (lv_iconst (v := 0) hx hb dX0_restore_14 rfl k)) ?_
  exact rk_top (rf_iret C rfl dX0_restore_15)
end
