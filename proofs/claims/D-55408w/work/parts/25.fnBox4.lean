/-! what the law reaches, 4 -/
section
variable {p : Program} {l : Launch} {e : Env} {R : Room} {s : State} {m : MethodId} {args : Array Value} {below : List Frame} {meth : Method} {c : Code} {Ω : zm_W} {K : zm_K} {n0 k0 : Nat}
theorem hd_X2_busiest : yX2_busiest.cls ≠ "java/lang/invoke/MethodHandle" ∧ yX2_busiest.cls ≠ "java/lang/invoke/VarHandle" ∧ (parseMethodDescriptor yX2_busiest.desc).map (fun d => d.parameters.length) = some 0 := by decide +kernel
noncomputable def fn_X2_busiest_4 (K : zm_K) (p0 : zm_R) : Nat → Int32 → Int32 → zm_M (Int32)
  | 0, _, _ => zm_fl
  | n + 1, x1, x2 =>
    if 600 ≤ x2 then
      zm_ret x1
    else
      zm_bnd (zm_bnd (zm_is p0 19) fun _ => fn_X2_over K p0 x2) fun v13 =>
      zm_bnd (zm_bnd (zm_is p0 19) fun _ => fn_X2_over K p0 x1) fun v18 =>
      zm_bnd (α := Int32) (
          if v13 ≤ v18 then
            zm_ret x1
          else
            zm_ret x2
        ) fun b29 =>
      fn_X2_busiest_4 K p0 n b29 (x2 + 1)
noncomputable def fn_X2_busiest (K : zm_K) (a0 : zm_R) : zm_M Int32 :=
  zm_bnd (α := Int32) (fn_X2_busiest_4 K a0 zm_N 0 1) fun b36 =>
  zm_ret b36
theorem rf_X2_busiest_4 (H : zm_H Ω K) (C : zm_C p l R s m args meth c Ω lw_all cX2_busiest yX2_busiest.cls yX2_busiest.name 3 18 439 (Option.some Jvm.ClassFile.FieldType.int)) (hX : zm_XO p l e R s m args below meth c Ω n0 k0 (zm_QFs below args s Ω n0 k0 zm_tvI)) (p0 : zm_R) : ∀ (n : Nat) (x1 : Int32) (x2 : Int32) (J : (Int32) → zm_M Int32) (ls : Array Slot), lv_has ls 3 [(0, va_rf p0), (1, .int x1), (2, .int x2)] → (∀ (b : Int32) (ls : Array Slot), lv_has ls 3 [(1, .int b)] → zm_RK p l e R s m args below meth c Ω n0 k0 (zm_QFs below args s Ω n0 k0 zm_tvI) (zm_ret b) J (F0 m 36 ls [])) → zm_RK p l e R s m args below meth c Ω n0 k0 (zm_QFs below args s Ω n0 k0 zm_tvI) (fn_X2_busiest_4 K p0 n x1 x2) J (F0 m 4 ls []) := by
  have hx := C.1
  have hb := C.2.1
  intro n
  induction n with
  | zero => intro x1 x2 J ls hl hJ; exact rk_fl
  | succ n ih =>
    intro x1 x2 J ls hl hJ
    unfold fn_X2_busiest_4
    refine rk_ite (fun _ _ _ _ _ k1 k2 => lv_iload_n hx hb dX2_busiest_4 rfl (lv_at hl 2 rfl) (lv_sipush (v := 600) hx hb dX2_busiest_5 rfl (lv_icmp_ge (tgt := 36) hx hb dX2_busiest_8 (by decide) k1 k2))) (fun c_8 => ?_) (fun c_8 => ?_)
    · exact hJ x1 ls (lv_sub hl [1] rfl)
    · refine rk_of (fun _ _ _ _ _ k => lr_aload_n hx hb dX2_busiest_11 rfl (lv_at hl 0 rfl) (lv_iload_n hx hb dX2_busiest_12 rfl (lv_at hl 2 rfl) k)) ?_
      refine rk_callI hX (cl_V (rest := []) (av := [.int x2]) C (hc_X2 H) (ct_X2_over H p0 x2) (lw_V q301 q302 q303 q102 q304) ⟨rfl, hd_X2_over⟩ ⟨(Nat.le_of_ble_eq_true rfl), (Nat.le_of_ble_eq_true rfl)⟩ rfl hl.1 rfl (zw_le zw_nil (Nat.le_of_ble_eq_true rfl)) dX2_busiest_13) (fun v13 => ?_)
      refine rk_of (fun _ _ _ _ _ k => lr_aload_n hx hb dX2_busiest_16 rfl (lv_at hl 0 rfl) (lv_iload_n hx hb dX2_busiest_17 rfl (lv_at hl 1 rfl) k)) ?_
      refine rk_callI hX (cl_V (rest := [.int v13]) (av := [.int x1]) C (hc_X2 H) (ct_X2_over H p0 x1) (lw_V q301 q302 q303 q102 q304) ⟨rfl, hd_X2_over⟩ ⟨(Nat.le_of_ble_eq_true rfl), (Nat.le_of_ble_eq_true rfl)⟩ rfl hl.1 rfl (zw_le (zw_I zw_nil) (Nat.le_of_ble_eq_true rfl)) dX2_busiest_18) (fun v18 => ?_)
      refine rk_join (β := Int32) (fun (b29 : Int32) ls => lv_has ls 3 [(0, va_rf p0), (2, .int x2)]) (fun (b29 : Int32) ls => F0 m 29 ls [.int b29]) (fun b29 ls hl => ?_) (fun hJ29 => ?_)
      · refine rk_ofs (fun _ _ _ _ _ k => lr_istore_n hx hb dX2_busiest_29 rfl hl (Nat.le_of_ble_eq_true rfl) [0, 1] rfl ⟨(by first | exact va_rf_cat _ | rfl), ⟨trivial, trivial⟩⟩ k) (fun ls hl => ?_)
        refine rk_ofs (fun _ _ _ _ _ k => lr_iinc (v := x2 + 1) hx hb dX2_busiest_30 hl (k := 2) rfl rfl (Nat.le_of_ble_eq_true rfl) [0, 1] rfl ⟨rfl, ⟨trivial, trivial⟩⟩ k) (fun ls hl => ?_)
        refine rk_of (fun _ _ _ _ _ k => lv_goto (tgt := 4) hx hb dX2_busiest_33 (by decide) k) ?_
        exact ih b29 (x2 + 1) J ls (lv_sub hl [2, 1, 0] rfl) hJ
      · refine rk_ite (fun _ _ _ _ _ k1 k2 => lv_icmp_le (tgt := 28) hx hb dX2_busiest_21 (by decide) k1 k2) (fun c_21 => ?_) (fun c_21 => ?_)
        · refine rk_of (fun _ _ _ _ _ k => lv_iload_n hx hb dX2_busiest_28 rfl (lv_at hl 1 rfl) k) ?_
          exact hJ29 x1 ls (lv_sub hl [0, 2] rfl)
        · refine rk_of (fun _ _ _ _ _ k => lv_iload_n hx hb dX2_busiest_24 rfl (lv_at hl 2 rfl) (lv_goto (tgt := 29) hx hb dX2_busiest_25 (by decide) k)) ?_
          exact hJ29 x2 ls (lv_sub hl [0, 2] rfl)
theorem ct_X2_busiest {l : Launch} {Ω : zm_W} {K : zm_K} (H : zm_H Ω K) (a0 : zm_R) : zm_Ct l Ω yX2_busiest (ws_ yX2_busiest cX2_busiest 3 (Option.some Jvm.ClassFile.FieldType.int)) 18 439 [va_rf a0] zm_tvI (fn_X2_busiest K a0) := by
  refine zm_ct H.1 (by decide +kernel) (zl_le (zl_R zl_nil) (Nat.le_of_ble_eq_true rfl)) ?_
  intro p e R s m args below meth c n0 k0 C hX ls hl
  have hx := C.1
  have hb := C.2.1
  simp only [zg_R, zg_nil] at hl
  have hl : lv_has ls 3 [(0, va_rf a0)] := hl
  refine rk_rf ?_
  unfold fn_X2_busiest
  refine rk_ofs (fun _ _ _ _ _ k => lv_iconst (v := 0) hx hb dX2_busiest_0 rfl (lr_istore_n hx hb dX2_busiest_1 rfl hl (Nat.le_of_ble_eq_true rfl) [0] rfl ⟨(by first | exact va_rf_cat _ | rfl), trivial⟩ k)) (fun ls hl => ?_)
  refine rk_ofs (fun _ _ _ _ _ k => lv_iconst (v := 1) hx hb dX2_busiest_2 rfl (lr_istore_n hx hb dX2_busiest_3 rfl hl (Nat.le_of_ble_eq_true rfl) [0, 1] rfl ⟨rfl, ⟨trivial, trivial⟩⟩ k)) (fun ls hl => ?_)
  refine rk_join (β := Int32) (fun (b36 : Int32) ls => lv_has ls 3 [(1, .int b36)]) (fun (b36 : Int32) ls => F0 m 36 ls []) (fun b36 ls hl => ?_) (fun hJ36 => ?_)
  · refine rk_of (fun _ _ _ _ _ k => lv_iload_n hx hb dX2_busiest_36 rfl (lv_at hl 0 rfl) k) ?_
    exact rk_top (rf_iret C rfl dX2_busiest_37)
  · exact rf_X2_busiest_4 H C hX a0 zm_N 0 1 _ ls (lv_sub hl [2, 1, 0] rfl) hJ36
theorem hd_X1_busiest : yX1_busiest.cls ≠ "java/lang/invoke/MethodHandle" ∧ yX1_busiest.cls ≠ "java/lang/invoke/VarHandle" ∧ (parseMethodDescriptor yX1_busiest.desc).map (fun d => d.parameters.length) = some 0 := by decide +kernel
noncomputable def fn_X1_busiest (K : zm_K) (a0 : zm_R) : zm_M Int32 :=
  zm_bnd (zm_getR a0 18 0) fun v1 =>
  zm_bnd (zm_bnd (zm_is v1 19) fun _ => fn_X2_wishes_2 K v1) fun v4 =>
  zm_bnd (zm_bnd (zm_cls v4) fun ci => if ci = 0 then fn_J2_isEmpty K v4 else if ci = 1 then fn_J0_isEmpty K v4 else zm_fl) fun v7 =>
  zm_bnd (α := Int32) (
      if v7 = 0 then
        zm_ret 1
      else
        zm_ret 0
    ) fun b20 =>
  zm_bnd (fn_X1_requireElement K b20) fun _ =>
  zm_bnd (zm_getR a0 18 0) fun v24 =>
  zm_bnd (zm_bnd (zm_is v24 19) fun _ => fn_X2_busiest K v24) fun v27 =>
  zm_ret v27
theorem ct_X1_busiest {l : Launch} {Ω : zm_W} {K : zm_K} (H : zm_H Ω K) (a0 : zm_R) : zm_Ct l Ω yX1_busiest (ws_ yX1_busiest cX1_busiest 1 (Option.some Jvm.ClassFile.FieldType.int)) 19 461 [va_rf a0] zm_tvI (fn_X1_busiest K a0) := by
  refine zm_ct H.1 (by decide +kernel) (zl_le (zl_R zl_nil) (Nat.le_of_ble_eq_true rfl)) ?_
  intro p e R s m args below meth c n0 k0 C hX ls hl
  have hx := C.1
  have hb := C.2.1
  simp only [zg_R, zg_nil] at hl
  have hl : lv_has ls 1 [(0, va_rf a0)] := hl
  refine rk_rf ?_
  unfold fn_X1_busiest
  refine rk_of (fun _ _ _ _ _ k => lr_aload_n hx hb dX1_busiest_0 rfl (lv_at hl 0 rfl) k) ?_
  refine rk_get zm_rdR_eq C (hc_X1 H) (k := 0) (Nat.le_of_ble_eq_true rfl) in_X1 q271 (fun _ h => h) dX1_busiest_1 (fun v1 => ?_)
  refine rk_callR hX (cl_V (rest := []) (av := []) C (hc_X2 H) (ct_X2_wishes_2 H v1) (lw_V q1628 q1629 q1630 q102 q1631) ⟨rfl, hd_X2_wishes_2⟩ ⟨(Nat.le_of_ble_eq_true rfl), (Nat.le_of_ble_eq_true rfl)⟩ rfl hl.1 rfl (zw_le zw_nil (Nat.le_of_ble_eq_true rfl)) dX1_busiest_4) (fun v4 => ?_)
  refine rk_callI hX (cl_dsp (fun ci => cl_case (cl_F (n := 0) (rest := []) (av := []) C (hc_J2 H) (ct_J2_isEmpty H v4) (lw_F q1703 q1706 q1708 q105 q1710) (zh_Fw H C (by decide) q1705 q1704 q1709 q1707 q309) (by decide +kernel) ⟨(Nat.le_of_ble_eq_true rfl), (Nat.le_of_ble_eq_true rfl)⟩ rfl hl.1 rfl (zw_le zw_nil (Nat.le_of_ble_eq_true rfl)) dX1_busiest_7) (cl_case (cl_F (n := 0) (rest := []) (av := []) C (hc_J4 H) (ct_J0_isEmpty H v4) (lw_F q1703 q1711 q1713 q103 q1715) (zh_Fw H C (by decide) q1705 q1704 q1714 q1712 q336) (by decide +kernel) ⟨(Nat.le_of_ble_eq_true rfl), (Nat.le_of_ble_eq_true rfl)⟩ rfl hl.1 rfl (zw_le zw_nil (Nat.le_of_ble_eq_true rfl)) dX1_busiest_7) (cl_fl)))) (fun v7 => ?_)
  refine rk_join (β := Int32) (fun (b20 : Int32) ls => lv_has ls 1 [(0, va_rf a0)]) (fun (b20 : Int32) ls => F0 m 20 ls [.int b20]) (fun b20 ls hl => ?_) (fun hJ20 => ?_)
  · refine rk_callV hX (cl_S (rest := []) C (ct_X1_requireElement H b20) (lw_S q1717 q1718 q101 q1719) hd_X1_requireElement ⟨(Nat.le_of_ble_eq_true rfl), (Nat.le_of_ble_eq_true rfl)⟩ rfl hl.1 rfl (zw_le zw_nil (Nat.le_of_ble_eq_true rfl)) dX1_busiest_20) (fun _ => ?_)
    refine rk_of (fun _ _ _ _ _ k => lr_aload_n hx hb dX1_busiest_23 rfl (lv_at hl 0 rfl) k) ?_
    refine rk_get zm_rdR_eq C (hc_X1 H) (k := 0) (Nat.le_of_ble_eq_true rfl) in_X1 q271 (fun _ h => h) dX1_busiest_24 (fun v24 => ?_)
    refine rk_callI hX (cl_V (rest := []) (av := []) C (hc_X2 H) (ct_X2_busiest H v24) (lw_V q297 q298 q299 q102 q300) ⟨rfl, hd_X2_busiest⟩ ⟨(Nat.le_of_ble_eq_true rfl), (Nat.le_of_ble_eq_true rfl)⟩ rfl hl.1 rfl (zw_le zw_nil (Nat.le_of_ble_eq_true rfl)) dX1_busiest_27) (fun v27 => ?_)
    exact rk_top (rf_iret C rfl dX1_busiest_30)
  · refine rk_ite (fun _ _ _ _ _ k1 k2 => lv_if_ne (tgt := 19) hx hb dX1_busiest_12 (by decide) k2 k1) (fun c_12 => ?_) (fun c_12 => ?_)
    · refine rk_of (fun _ _ _ _ _ k => lv_iconst (v := 1) hx hb dX1_busiest_15 rfl (lv_goto (tgt := 20) hx hb dX1_busiest_16 (by decide) k)) ?_
      exact hJ20 1 ls (lv_sub hl [0] rfl)
    · refine rk_of (fun _ _ _ _ _ k => lv_iconst (v := 0) hx hb dX1_busiest_19 rfl k) ?_
      exact hJ20 0 ls (lv_sub hl [0] rfl)
theorem hd_X0_busiest : yX0_busiest.cls ≠ "java/lang/invoke/MethodHandle" ∧ yX0_busiest.cls ≠ "java/lang/invoke/VarHandle" ∧ (parseMethodDescriptor yX0_busiest.desc).map (fun d => d.parameters.length) = some 2 := by decide +kernel
noncomputable def fn_X0_busiest (K : zm_K) (a0 : zm_R) (a1 : zm_R) : zm_M Int32 :=
  zm_cth (zm_bnd (zm_is a0 18) fun _ => fn_X1_busiest K a0) (fun (E3 : String) (q3 : Nat) =>
      if E3 ∈ (["java/util/NoSuchElementException"] : List String) then
        zm_ret 1
      else
        if E3 ∈ (["java/lang/IllegalArgumentException", "java/lang/IndexOutOfBoundsException", "java/lang/UnsupportedOperationException", "java/lang/ArrayIndexOutOfBoundsException", "java/lang/IllegalStateException", "java/lang/StringIndexOutOfBoundsException", "java/lang/ArithmeticException", "BoxSpans$Refusal", "BoxSpans$TextError"] : List String) then
          zm_thr E3 q3
        else
          zm_fl
    ) fun v3 =>
  zm_bnd (zm_astJ K a1 0 ((v3).toInt64)) fun _ =>
  zm_ret 0
theorem ct_X0_busiest {l : Launch} {Ω : zm_W} {K : zm_K} (H : zm_H Ω K) (a0 : zm_R) (a1 : zm_R) : zm_Ct l Ω yX0_busiest (wsW_ yX0_busiest cX0_busiest 3 (Option.some Jvm.ClassFile.FieldType.int) [(0, 8, 11, 62)]) 20 481 [va_rf a0, va_rf a1] zm_tvI (fn_X0_busiest K a0 a1) := by
  refine zm_ctW H.1 (by decide +kernel) (zl_le (zl_R (zl_R zl_nil)) (Nat.le_of_ble_eq_true rfl)) ?_
  intro p e R s m args below meth c n0 k0 C hN hT ls hl
  have hx := C.1
  have hb := C.2.1
  simp only [zg_R, zg_nil] at hl
  have hl : lv_has ls 3 [(0, va_rf a0), (1, va_rf a1)] := hl
  refine rk_rf ?_
  unfold fn_X0_busiest
  refine rk_of (fun _ _ _ _ _ k => lr_aload_n hx hb dX0_busiest_0 rfl (lv_at hl 1 rfl) (lv_iconst (v := 0) hx hb dX0_busiest_1 rfl (lr_aload_n hx hb dX0_busiest_2 rfl (lv_at hl 0 rfl) k))) ?_
  refine rk_cthI (cl_V (rest := [.int 0, va_rf a1]) (av := []) C (hc_X1 H) (ct_X1_busiest H a0) (lw_V q1698 q1699 q1700 q101 q1701) ⟨rfl, hd_X1_busiest⟩ ⟨(Nat.le_of_ble_eq_true rfl), (Nat.le_of_ble_eq_true rfl)⟩ rfl hl.1 rfl (zw_le (zw_I (zw_R zw_nil)) (Nat.le_of_ble_eq_true rfl)) dX0_busiest_3) (fun E3 q3 => ?_) (fun v3 => ?_)
  · refine rx_ite (fun h3_0 => ?_) (fun h3_0 => ?_)
    · refine rx_cat (k := 0) C hT rfl zp_nil ⟨by decide, by decide⟩ (by decide) q1697 ((zp_cons (P := fun E => (Cond.castable E "java/util/NoSuchElementException").before args s = true) (zn_wC H C q788) zp_nil) E3 h3_0) ?_
      refine rk_ofs (fun _ _ _ _ _ k => lr_astore_n hx hb dX0_busiest_11 rfl hl (Nat.le_of_ble_eq_true rfl) [] rfl trivial k) (fun ls hl => ?_)
      refine rk_of (fun _ _ _ _ _ k => lv_iconst (v := 1) hx hb dX0_busiest_12 rfl k) ?_
      exact rk_top (rf_iret C rfl dX0_busiest_13)
    · refine rx_ite (fun h3_x => ?_) (fun _ => rx_fl)
      exact rx_out C hT (zp_cons (Or.inr ⟨by decide, _, q1697, zh_ncs H C (L := ["java/lang/IllegalArgumentException", "java/lang/IndexOutOfBoundsException", "java/lang/UnsupportedOperationException", "java/lang/ArrayIndexOutOfBoundsException", "java/lang/IllegalStateException", "java/lang/StringIndexOutOfBoundsException", "java/lang/ArithmeticException", "BoxSpans$Refusal", "BoxSpans$TextError"]) (by decide) h3_x⟩) zp_nil)
  refine rk_of (fun _ _ _ _ _ k => lv_i2l hx hb dX0_busiest_6 rfl k) ?_
  refine rk_last C H.2.2.1 dX0_busiest_7 ?_
  refine rk_of (fun _ _ _ _ _ k => lv_goto (tgt := 14) hx hb dX0_busiest_8 (by decide) (lv_iconst (v := 0) hx hb dX0_busiest_14 rfl k)) ?_
  exact rk_top (rf_iret C rfl dX0_busiest_15)
theorem hd_X1_needs : yX1_needs.cls ≠ "java/lang/invoke/MethodHandle" ∧ yX1_needs.cls ≠ "java/lang/invoke/VarHandle" ∧ (parseMethodDescriptor yX1_needs.desc).map (fun d => d.parameters.length) = some 0 := by decide +kernel
noncomputable def fn_X1_needs (K : zm_K) (a0 : zm_R) : zm_M Int32 :=
  zm_bnd (zm_getR a0 18 0) fun v1 =>
  zm_bnd (zm_getR a0 18 0) fun v5 =>
  zm_bnd (zm_bnd (zm_is v5 19) fun _ => fn_X2_busiest K v5) fun v8 =>
  zm_bnd (zm_bnd (zm_is v1 19) fun _ => fn_X2_over K v1 v8) fun v11 =>
  zm_ret v11
theorem ct_X1_needs {l : Launch} {Ω : zm_W} {K : zm_K} (H : zm_H Ω K) (a0 : zm_R) : zm_Ct l Ω yX1_needs (ws_ yX1_needs cX1_needs 1 (Option.some Jvm.ClassFile.FieldType.int)) 19 461 [va_rf a0] zm_tvI (fn_X1_needs K a0) := by
  refine zm_ct H.1 (by decide +kernel) (zl_le (zl_R zl_nil) (Nat.le_of_ble_eq_true rfl)) ?_
  intro p e R s m args below meth c n0 k0 C hX ls hl
  have hx := C.1
  have hb := C.2.1
  simp only [zg_R, zg_nil] at hl
  have hl : lv_has ls 1 [(0, va_rf a0)] := hl
  refine rk_rf ?_
  unfold fn_X1_needs
  refine rk_of (fun _ _ _ _ _ k => lr_aload_n hx hb dX1_needs_0 rfl (lv_at hl 0 rfl) k) ?_
  refine rk_get zm_rdR_eq C (hc_X1 H) (k := 0) (Nat.le_of_ble_eq_true rfl) in_X1 q271 (fun _ h => h) dX1_needs_1 (fun v1 => ?_)
  refine rk_of (fun _ _ _ _ _ k => lr_aload_n hx hb dX1_needs_4 rfl (lv_at hl 0 rfl) k) ?_
  refine rk_get zm_rdR_eq C (hc_X1 H) (k := 0) (Nat.le_of_ble_eq_true rfl) in_X1 q271 (fun _ h => h) dX1_needs_5 (fun v5 => ?_)
  refine rk_callI hX (cl_V (rest := [va_rf v1]) (av := []) C (hc_X2 H) (ct_X2_busiest H v5) (lw_V q297 q298 q299 q102 q300) ⟨rfl, hd_X2_busiest⟩ ⟨(Nat.le_of_ble_eq_true rfl), (Nat.le_of_ble_eq_true rfl)⟩ rfl hl.1 rfl (zw_le (zw_R zw_nil) (Nat.le_of_ble_eq_true rfl)) dX1_needs_8) (fun v8 => ?_)
  refine rk_callI hX (cl_V (rest := []) (av := [.int v8]) C (hc_X2 H) (ct_X2_over H v1 v8) (lw_V q1044 q302 q303 q102 q304) ⟨rfl, hd_X2_over⟩ ⟨(Nat.le_of_ble_eq_true rfl), (Nat.le_of_ble_eq_true rfl)⟩ rfl hl.1 rfl (zw_le zw_nil (Nat.le_of_ble_eq_true rfl)) dX1_needs_11) (fun v11 => ?_)
  exact rk_top (rf_iret C rfl dX1_needs_14)
theorem hd_X2_needsAgain : yX2_needsAgain.cls ≠ "java/lang/invoke/MethodHandle" ∧ yX2_needsAgain.cls ≠ "java/lang/invoke/VarHandle" ∧ (parseMethodDescriptor yX2_needsAgain.desc).map (fun d => d.parameters.length) = some 0 := by decide +kernel
noncomputable def fn_X2_needsAgain_35 (K : zm_K) (p0 : zm_R) (p1 : zm_R) (p2 : zm_R) (p3 : Int32) (p4 : Int32) : Nat → Int32 → Int32 → zm_M (Int32)
  | 0, _, _ => zm_fl
  | n + 1, x5, x6 =>
    zm_bnd (zm_getR p0 19 2) fun v38 =>
    zm_bnd (zm_bnd (zm_cls v38) fun ci => if ci = 0 then fn_J2_size K v38 else if ci = 1 then fn_J4_size K v38 else zm_fl) fun v41 =>
    if v41 ≤ x6 then
      zm_ret x5
    else
      zm_bnd (zm_aldI .boolean p2 x6) fun v52 =>
      zm_bnd (α := Int32) (
          if v52 = 0 then
            if x5 = (-1) then
              zm_ret x6
            else
              zm_bnd (zm_getR p0 19 2) fun v63 =>
              zm_bnd (zm_bnd (zm_cls v63) fun ci => if ci = 0 then fn_J2_get K v63 x6 else if ci = 1 then fn_J4_get K v63 x6 else zm_fl) fun v68 =>
              zm_bnd (zm_chk [24] [] v68) fun _ =>
              zm_bnd (zm_bnd (zm_is v68 24) fun _ => fn_X8_from K v68) fun v76 =>
              zm_bnd (zm_getR p0 19 2) fun v80 =>
              zm_bnd (zm_bnd (zm_cls v80) fun ci => if ci = 0 then fn_J2_get K v80 x5 else if ci = 1 then fn_J4_get K v80 x5 else zm_fl) fun v85 =>
              zm_bnd (zm_chk [24] [] v85) fun _ =>
              zm_bnd (zm_bnd (zm_is v85 24) fun _ => fn_X8_from K v85) fun v93 =>
              if v93 ≤ v76 then
                zm_ret x5
              else
                zm_ret x6
          else
            zm_ret x5
        ) fun b106 =>
      fn_X2_needsAgain_35 K p0 p1 p2 p3 p4 n b106 (x6 + 1)
noncomputable def fn_X2_needsAgain_122 (K : zm_K) (p0 : zm_R) (p1 : zm_R) (p2 : zm_R) (p3 : Int32) (p4 : Int32) (p5 : Int32) : Nat → Int32 → zm_M (Int32)
  | 0, _ => zm_fl
  | n + 1, x6 =>
    zm_bnd (zm_aldI .int p1 x6) fun v125 =>
    zm_bnd (zm_getR p0 19 2) fun v127 =>
    zm_bnd (zm_bnd (zm_cls v127) fun ci => if ci = 0 then fn_J2_get K v127 p5 else if ci = 1 then fn_J4_get K v127 p5 else zm_fl) fun v132 =>
    zm_bnd (zm_chk [24] [] v132) fun _ =>
    zm_bnd (zm_bnd (zm_is v132 24) fun _ => fn_X8_from K v132) fun v140 =>
    if v125 ≤ v140 then
      zm_ret x6
    else
      fn_X2_needsAgain_122 K p0 p1 p2 p3 p4 p5 n (x6 + 1)
noncomputable def fn_X2_needsAgain_15 (K : zm_K) (p0 : zm_R) (p1 : zm_R) (p2 : zm_R) : Nat → Int32 → Int32 → zm_M (Int32)
  | 0, _, _ => zm_fl
  | n + 1, x3, x4 =>
    zm_bnd (zm_getR p0 19 2) fun v18 =>
    zm_bnd (zm_bnd (zm_cls v18) fun ci => if ci = 0 then fn_J2_size K v18 else if ci = 1 then fn_J4_size K v18 else zm_fl) fun v21 =>
    if v21 ≤ x4 then
      zm_ret x3
    else
      zm_bnd (α := Int32) (fn_X2_needsAgain_35 K p0 p1 p2 x3 x4 zm_N (-1) 0) fun b114 =>
      zm_bnd (zm_astI K .boolean p2 b114 1) fun _ =>
      zm_bnd (α := Int32) (fn_X2_needsAgain_122 K p0 p1 p2 x3 x4 b114 zm_N 0) fun b152 =>
      zm_bnd (zm_getR p0 19 2) fun v156 =>
      zm_bnd (zm_bnd (zm_cls v156) fun ci => if ci = 0 then fn_J2_get K v156 b114 else if ci = 1 then fn_J4_get K v156 b114 else zm_fl) fun v161 =>
      zm_bnd (zm_chk [24] [] v161) fun _ =>
      zm_bnd (zm_bnd (zm_is v161 24) fun _ => fn_X8_to K v161) fun v169 =>
      zm_bnd (zm_astI K .int p1 b152 v169) fun _ =>
      zm_bnd (zm_ret (if (x3 < (b152 + 1) : Prop) then ((b152 + 1) : Int32) else x3)) fun v178 =>
      fn_X2_needsAgain_15 K p0 p1 p2 n v178 (x4 + 1)
noncomputable def fn_X2_needsAgain (K : zm_K) (a0 : zm_R) : zm_M Int32 :=
  zm_bnd (zm_newa .int (.inl fun _ => 0) 12) fun v2 =>
  zm_bnd (zm_newa .boolean (.inl fun _ => 0) 12) fun v7 =>
  zm_bnd (α := Int32) (fn_X2_needsAgain_15 K a0 (some v2) (some v7) zm_N 0 0) fun b188 =>
  zm_ret b188
theorem rf_X2_needsAgain_35 (H : zm_H Ω K) (C : zm_C p l R s m args meth c Ω lw_all cX2_needsAgain yX2_needsAgain.cls yX2_needsAgain.name 7 10 254 (Option.some Jvm.ClassFile.FieldType.int)) (hX : zm_XO p l e R s m args below meth c Ω n0 k0 (zm_QFs below args s Ω n0 k0 zm_tvI)) (p0 : zm_R) (p1 : zm_R) (p2 : zm_R) (p3 : Int32) (p4 : Int32) : ∀ (n : Nat) (x5 : Int32) (x6 : Int32) (J : (Int32) → zm_M Int32) (ls : Array Slot), lv_has ls 7 [(0, va_rf p0), (1, va_rf p1), (2, va_rf p2), (3, .int p3), (4, .int p4), (5, .int x5), (6, .int x6)] → (∀ (b : Int32) (ls : Array Slot), lv_has ls 7 [(0, va_rf p0), (1, va_rf p1), (2, va_rf p2), (3, .int p3), (4, .int p4), (5, .int b)] → zm_RK p l e R s m args below meth c Ω n0 k0 (zm_QFs below args s Ω n0 k0 zm_tvI) (zm_ret b) J (F0 m 114 ls [])) → zm_RK p l e R s m args below meth c Ω n0 k0 (zm_QFs below args s Ω n0 k0 zm_tvI) (fn_X2_needsAgain_35 K p0 p1 p2 p3 p4 n x5 x6) J (F0 m 35 ls []) := by
  have hx := C.1
  have hb := C.2.1
  intro n
  induction n with
  | zero => intro x5 x6 J ls hl hJ; exact rk_fl
  | succ n ih =>
    intro x5 x6 J ls hl hJ
    unfold fn_X2_needsAgain_35
    refine rk_of (fun _ _ _ _ _ k => lv_iload hx hb dX2_needsAgain_35 (lv_at hl 6 rfl) (lr_aload_n hx hb dX2_needsAgain_37 rfl (lv_at hl 0 rfl) k)) ?_
    refine rk_get zm_rdR_eq C (hc_X2 H) (k := 2) (Nat.le_of_ble_eq_true rfl) in_X2 q199 (fun _ h => h) dX2_needsAgain_38 (fun v38 => ?_)
    refine rk_callI hX (cl_dsp (fun ci => cl_case (cl_F (n := 0) (rest := [.int x6]) (av := []) C (hc_J2 H) (ct_J2_size H v38) (lw_F q1054 q1057 q752 q105 q753) (zh_Fw H C (by decide) q1056 q1055 q1059 q1058 q309) (by decide +kernel) ⟨(Nat.le_of_ble_eq_true rfl), (Nat.le_of_ble_eq_true rfl)⟩ rfl hl.1 rfl (zw_le (zw_I zw_nil) (Nat.le_of_ble_eq_true rfl)) dX2_needsAgain_41) (cl_case (cl_F (n := 0) (rest := [.int x6]) (av := []) C (hc_J4 H) (ct_J4_size H v38) (lw_F q1054 q1060 q755 q107 q756) (zh_Fw H C (by decide) q1056 q1055 q1062 q1061 q336) (by decide +kernel) ⟨(Nat.le_of_ble_eq_true rfl), (Nat.le_of_ble_eq_true rfl)⟩ rfl hl.1 rfl (zw_le (zw_I zw_nil) (Nat.le_of_ble_eq_true rfl)) dX2_needsAgain_41) (cl_fl)))) (fun v41 => ?_)
    refine rk_ite (fun _ _ _ _ _ k1 k2 => lv_icmp_ge (tgt := 114) hx hb dX2_needsAgain_46 (by decide) k1 k2) (fun c_46 => ?_) (fun c_46 => ?_)
    · exact hJ x5 ls (lv_sub hl [0, 1, 2, 3, 4, 5] rfl)
    · refine rk_of (fun _ _ _ _ _ k => lr_aload_n hx hb dX2_needsAgain_49 rfl (lv_at hl 2 rfl) (lv_iload hx hb dX2_needsAgain_50 (lv_at hl 6 rfl) k)) ?_
      refine rk_zald C dX2_needsAgain_52 (fun v52 => ?_)
      refine rk_join (β := Int32) (fun (b106 : Int32) ls => lv_has ls 7 [(0, va_rf p0), (1, va_rf p1), (2, va_rf p2), (3, .int p3), (4, .int p4), (6, .int x6)]) (fun (b106 : Int32) ls => F0 m 106 ls [.int b106]) (fun b106 ls hl => ?_) (fun hJ106 => ?_)
      · refine rk_ofs (fun _ _ _ _ _ k => lr_istore hx hb dX2_needsAgain_106 hl (Nat.le_of_ble_eq_true rfl) [0, 1, 2, 3, 4, 5] rfl ⟨trivial, ⟨trivial, ⟨trivial, ⟨trivial, ⟨rfl, ⟨trivial, trivial⟩⟩⟩⟩⟩⟩ k) (fun ls hl => ?_)
        refine rk_ofs (fun _ _ _ _ _ k => lr_iinc (v := x6 + 1) hx hb dX2_needsAgain_108 hl (k := 6) rfl rfl (Nat.le_of_ble_eq_true rfl) [0, 1, 2, 3, 4, 5] rfl ⟨rfl, ⟨trivial, ⟨trivial, ⟨trivial, ⟨trivial, ⟨trivial, trivial⟩⟩⟩⟩⟩⟩ k) (fun ls hl => ?_)
        refine rk_of (fun _ _ _ _ _ k => lv_goto (tgt := 35) hx hb dX2_needsAgain_111 (by decide) k) ?_
        exact ih b106 (x6 + 1) J ls (lv_sub hl [2, 3, 4, 5, 6, 1, 0] rfl) hJ
      · refine rk_ite (fun _ _ _ _ _ k1 k2 => lv_if_ne (tgt := 104) hx hb dX2_needsAgain_53 (by decide) k2 k1) (fun c_53 => ?_) (fun c_53 => ?_)
        · refine rk_ite (fun _ _ _ _ _ k1 k2 => lv_iload hx hb dX2_needsAgain_56 (lv_at hl 5 rfl) (lv_iconst (v := (-1)) hx hb dX2_needsAgain_58 rfl (lv_icmp_eq (tgt := 99) hx hb dX2_needsAgain_59 (by decide) k1 k2))) (fun c_59 => ?_) (fun c_59 => ?_)
          · refine rk_of (fun _ _ _ _ _ k => lv_iload hx hb dX2_needsAgain_99 (lv_at hl 6 rfl) (lv_goto (tgt := 106) hx hb dX2_needsAgain_101 (by decide) k)) ?_
            exact hJ106 x6 ls (lv_sub hl [0, 1, 2, 3, 4, 6] rfl)
          · refine rk_of (fun _ _ _ _ _ k => lr_aload_n hx hb dX2_needsAgain_62 rfl (lv_at hl 0 rfl) k) ?_
            refine rk_get zm_rdR_eq C (hc_X2 H) (k := 2) (Nat.le_of_ble_eq_true rfl) in_X2 q199 (fun _ h => h) dX2_needsAgain_63 (fun v63 => ?_)
            refine rk_of (fun _ _ _ _ _ k => lv_iload hx hb dX2_needsAgain_66 (lv_at hl 6 rfl) k) ?_
            refine rk_callR hX (cl_dsp (fun ci => cl_case (cl_F (n := 1) (rest := []) (av := [.int x6]) C (hc_J2 H) (ct_J2_get H v63 x6) (lw_F q1064 q1067 q847 q105 q848) (zh_Fw H C (by decide) q1066 q1065 q1069 q1068 q309) (by decide +kernel) ⟨(Nat.le_of_ble_eq_true rfl), (Nat.le_of_ble_eq_true rfl)⟩ rfl hl.1 rfl (zw_le zw_nil (Nat.le_of_ble_eq_true rfl)) dX2_needsAgain_68) (cl_case (cl_F (n := 1) (rest := []) (av := [.int x6]) C (hc_J4 H) (ct_J4_get H v63 x6) (lw_F q1064 q1070 q860 q107 q861) (zh_Fw H C (by decide) q1066 q1065 q1072 q1071 q336) (by decide +kernel) ⟨(Nat.le_of_ble_eq_true rfl), (Nat.le_of_ble_eq_true rfl)⟩ rfl hl.1 rfl (zw_le zw_nil (Nat.le_of_ble_eq_true rfl)) dX2_needsAgain_68) (cl_fl)))) (fun v68 => ?_)
            refine rk_chk C q993 (zc_cons (zc_s (hc_X8 H)) zc_nil) zp_nil dX2_needsAgain_73 ?_
            refine rk_callI hX (cl_V (rest := []) (av := []) C (hc_X8 H) (ct_X8_from H v68) (lw_V q1073 q1021 q3079 q141 q1023) ⟨rfl, hd_X8_from⟩ ⟨(Nat.le_of_ble_eq_true rfl), (Nat.le_of_ble_eq_true rfl)⟩ rfl hl.1 rfl (zw_le zw_nil (Nat.le_of_ble_eq_true rfl)) dX2_needsAgain_76) (fun v76 => ?_)
            refine rk_of (fun _ _ _ _ _ k => lr_aload_n hx hb dX2_needsAgain_79 rfl (lv_at hl 0 rfl) k) ?_
            refine rk_get zm_rdR_eq C (hc_X2 H) (k := 2) (Nat.le_of_ble_eq_true rfl) in_X2 q199 (fun _ h => h) dX2_needsAgain_80 (fun v80 => ?_)
            refine rk_of (fun _ _ _ _ _ k => lv_iload hx hb dX2_needsAgain_83 (lv_at hl 5 rfl) k) ?_
            refine rk_callR hX (cl_dsp (fun ci => cl_case (cl_F (n := 1) (rest := [.int v76]) (av := [.int x5]) C (hc_J2 H) (ct_J2_get H v80 x5) (lw_F q1064 q1067 q847 q105 q848) (zh_Fw H C (by decide) q1066 q1065 q1069 q1068 q309) (by decide +kernel) ⟨(Nat.le_of_ble_eq_true rfl), (Nat.le_of_ble_eq_true rfl)⟩ rfl hl.1 rfl (zw_le (zw_I zw_nil) (Nat.le_of_ble_eq_true rfl)) dX2_needsAgain_85) (cl_case (cl_F (n := 1) (rest := [.int v76]) (av := [.int x5]) C (hc_J4 H) (ct_J4_get H v80 x5) (lw_F q1064 q1070 q860 q107 q861) (zh_Fw H C (by decide) q1066 q1065 q1072 q1071 q336) (by decide +kernel) ⟨(Nat.le_of_ble_eq_true rfl), (Nat.le_of_ble_eq_true rfl)⟩ rfl hl.1 rfl (zw_le (zw_I zw_nil) (Nat.le_of_ble_eq_true rfl)) dX2_needsAgain_85) (cl_fl)))) (fun v85 => ?_)
            refine rk_chk C q993 (zc_cons (zc_s (hc_X8 H)) zc_nil) zp_nil dX2_needsAgain_90 ?_
            refine rk_callI hX (cl_V (rest := [.int v76]) (av := []) C (hc_X8 H) (ct_X8_from H v85) (lw_V q1073 q1021 q3079 q141 q1023) ⟨rfl, hd_X8_from⟩ ⟨(Nat.le_of_ble_eq_true rfl), (Nat.le_of_ble_eq_true rfl)⟩ rfl hl.1 rfl (zw_le (zw_I zw_nil) (Nat.le_of_ble_eq_true rfl)) dX2_needsAgain_93) (fun v93 => ?_)
            refine rk_ite (fun _ _ _ _ _ k1 k2 => lv_icmp_ge (tgt := 104) hx hb dX2_needsAgain_96 (by decide) k1 k2) (fun c_96 => ?_) (fun c_96 => ?_)
            · refine rk_of (fun _ _ _ _ _ k => lv_iload hx hb dX2_needsAgain_104 (lv_at hl 5 rfl) k) ?_
              exact hJ106 x5 ls (lv_sub hl [0, 1, 2, 3, 4, 6] rfl)
            · refine rk_of (fun _ _ _ _ _ k => lv_iload hx hb dX2_needsAgain_99 (lv_at hl 6 rfl) (lv_goto (tgt := 106) hx hb dX2_needsAgain_101 (by decide) k)) ?_
              exact hJ106 x6 ls (lv_sub hl [0, 1, 2, 3, 4, 6] rfl)
        · refine rk_of (fun _ _ _ _ _ k => lv_iload hx hb dX2_needsAgain_104 (lv_at hl 5 rfl) k) ?_
          exact hJ106 x5 ls (lv_sub hl [0, 1, 2, 3, 4, 6] rfl)
theorem rf_X2_needsAgain_122 (H : zm_H Ω K) (C : zm_C p l R s m args meth c Ω lw_all cX2_needsAgain yX2_needsAgain.cls yX2_needsAgain.name 7 10 254 (Option.some Jvm.ClassFile.FieldType.int)) (hX : zm_XO p l e R s m args below meth c Ω n0 k0 (zm_QFs below args s Ω n0 k0 zm_tvI)) (p0 : zm_R) (p1 : zm_R) (p2 : zm_R) (p3 : Int32) (p4 : Int32) (p5 : Int32) : ∀ (n : Nat) (x6 : Int32) (J : (Int32) → zm_M Int32) (ls : Array Slot), lv_has ls 7 [(0, va_rf p0), (1, va_rf p1), (2, va_rf p2), (3, .int p3), (4, .int p4), (5, .int p5), (6, .int x6)] → (∀ (b : Int32) (ls : Array Slot), lv_has ls 7 [(0, va_rf p0), (1, va_rf p1), (2, va_rf p2), (3, .int p3), (4, .int p4), (5, .int p5), (6, .int b)] → zm_RK p l e R s m args below meth c Ω n0 k0 (zm_QFs below args s Ω n0 k0 zm_tvI) (zm_ret b) J (F0 m 152 ls [])) → zm_RK p l e R s m args below meth c Ω n0 k0 (zm_QFs below args s Ω n0 k0 zm_tvI) (fn_X2_needsAgain_122 K p0 p1 p2 p3 p4 p5 n x6) J (F0 m 122 ls []) := by
  have hx := C.1
  have hb := C.2.1
  intro n
  induction n with
  | zero => intro x6 J ls hl hJ; exact rk_fl
  | succ n ih =>
    intro x6 J ls hl hJ
    unfold fn_X2_needsAgain_122
    refine rk_of (fun _ _ _ _ _ k => lr_aload_n hx hb dX2_needsAgain_122 rfl (lv_at hl 1 rfl) (lv_iload hx hb dX2_needsAgain_123 (lv_at hl 6 rfl) k)) ?_
    refine rk_iald C dX2_needsAgain_125 (fun v125 => ?_)
    refine rk_of (fun _ _ _ _ _ k => lr_aload_n hx hb dX2_needsAgain_126 rfl (lv_at hl 0 rfl) k) ?_
    refine rk_get zm_rdR_eq C (hc_X2 H) (k := 2) (Nat.le_of_ble_eq_true rfl) in_X2 q199 (fun _ h => h) dX2_needsAgain_127 (fun v127 => ?_)
    refine rk_of (fun _ _ _ _ _ k => lv_iload hx hb dX2_needsAgain_130 (lv_at hl 5 rfl) k) ?_
    refine rk_callR hX (cl_dsp (fun ci => cl_case (cl_F (n := 1) (rest := [.int v125]) (av := [.int p5]) C (hc_J2 H) (ct_J2_get H v127 p5) (lw_F q1064 q1067 q847 q105 q848) (zh_Fw H C (by decide) q1066 q1065 q1069 q1068 q309) (by decide +kernel) ⟨(Nat.le_of_ble_eq_true rfl), (Nat.le_of_ble_eq_true rfl)⟩ rfl hl.1 rfl (zw_le (zw_I zw_nil) (Nat.le_of_ble_eq_true rfl)) dX2_needsAgain_132) (cl_case (cl_F (n := 1) (rest := [.int v125]) (av := [.int p5]) C (hc_J4 H) (ct_J4_get H v127 p5) (lw_F q1064 q1070 q860 q107 q861) (zh_Fw H C (by decide) q1066 q1065 q1072 q1071 q336) (by decide +kernel) ⟨(Nat.le_of_ble_eq_true rfl), (Nat.le_of_ble_eq_true rfl)⟩ rfl hl.1 rfl (zw_le (zw_I zw_nil) (Nat.le_of_ble_eq_true rfl)) dX2_needsAgain_132) (cl_fl)))) (fun v132 => ?_)
    refine rk_chk C q993 (zc_cons (zc_s (hc_X8 H)) zc_nil) zp_nil dX2_needsAgain_137 ?_
    refine rk_callI hX (cl_V (rest := [.int v125]) (av := []) C (hc_X8 H) (ct_X8_from H v132) (lw_V q1073 q1021 q3079 q141 q1023) ⟨rfl, hd_X8_from⟩ ⟨(Nat.le_of_ble_eq_true rfl), (Nat.le_of_ble_eq_true rfl)⟩ rfl hl.1 rfl (zw_le (zw_I zw_nil) (Nat.le_of_ble_eq_true rfl)) dX2_needsAgain_140) (fun v140 => ?_)
    refine rk_ite (fun _ _ _ _ _ k1 k2 => lv_icmp_le (tgt := 152) hx hb dX2_needsAgain_143 (by decide) k1 k2) (fun c_143 => ?_) (fun c_143 => ?_)
    · exact hJ x6 ls (lv_sub hl [0, 1, 2, 3, 4, 5, 6] rfl)
    · refine rk_ofs (fun _ _ _ _ _ k => lr_iinc (v := x6 + 1) hx hb dX2_needsAgain_146 hl (k := 6) rfl rfl (Nat.le_of_ble_eq_true rfl) [0, 1, 2, 3, 4, 5] rfl ⟨trivial, ⟨trivial, ⟨trivial, ⟨trivial, ⟨trivial, ⟨rfl, trivial⟩⟩⟩⟩⟩⟩ k) (fun ls hl => ?_)
      refine rk_of (fun _ _ _ _ _ k => lv_goto (tgt := 122) hx hb dX2_needsAgain_149 (by decide) k) ?_
      exact ih (x6 + 1) J ls (lv_sub hl [1, 2, 3, 4, 5, 6, 0] rfl) hJ
theorem rf_X2_needsAgain_15 (H : zm_H Ω K) (C : zm_C p l R s m args meth c Ω lw_all cX2_needsAgain yX2_needsAgain.cls yX2_needsAgain.name 7 10 254 (Option.some Jvm.ClassFile.FieldType.int)) (hX : zm_XO p l e R s m args below meth c Ω n0 k0 (zm_QFs below args s Ω n0 k0 zm_tvI)) (p0 : zm_R) (p1 : zm_R) (p2 : zm_R) : ∀ (n : Nat) (x3 : Int32) (x4 : Int32) (J : (Int32) → zm_M Int32) (ls : Array Slot), lv_has ls 7 [(0, va_rf p0), (1, va_rf p1), (2, va_rf p2), (3, .int x3), (4, .int x4)] → (∀ (b : Int32) (ls : Array Slot), lv_has ls 7 [(3, .int b)] → zm_RK p l e R s m args below meth c Ω n0 k0 (zm_QFs below args s Ω n0 k0 zm_tvI) (zm_ret b) J (F0 m 188 ls [])) → zm_RK p l e R s m args below meth c Ω n0 k0 (zm_QFs below args s Ω n0 k0 zm_tvI) (fn_X2_needsAgain_15 K p0 p1 p2 n x3 x4) J (F0 m 15 ls []) := by
  have hx := C.1
  have hb := C.2.1
  intro n
  induction n with
  | zero => intro x3 x4 J ls hl hJ; exact rk_fl
  | succ n ih =>
    intro x3 x4 J ls hl hJ
    unfold fn_X2_needsAgain_15
    refine rk_of (fun _ _ _ _ _ k => lv_iload hx hb dX2_needsAgain_15 (lv_at hl 4 rfl) (lr_aload_n hx hb dX2_needsAgain_17 rfl (lv_at hl 0 rfl) k)) ?_
    refine rk_get zm_rdR_eq C (hc_X2 H) (k := 2) (Nat.le_of_ble_eq_true rfl) in_X2 q199 (fun _ h => h) dX2_needsAgain_18 (fun v18 => ?_)
    refine rk_callI hX (cl_dsp (fun ci => cl_case (cl_F (n := 0) (rest := [.int x4]) (av := []) C (hc_J2 H) (ct_J2_size H v18) (lw_F q1054 q1057 q752 q105 q753) (zh_Fw H C (by decide) q1056 q1055 q1059 q1058 q309) (by decide +kernel) ⟨(Nat.le_of_ble_eq_true rfl), (Nat.le_of_ble_eq_true rfl)⟩ rfl hl.1 rfl (zw_le (zw_I zw_nil) (Nat.le_of_ble_eq_true rfl)) dX2_needsAgain_21) (cl_case (cl_F (n := 0) (rest := [.int x4]) (av := []) C (hc_J4 H) (ct_J4_size H v18) (lw_F q1054 q1060 q755 q107 q756) (zh_Fw H C (by decide) q1056 q1055 q1062 q1061 q336) (by decide +kernel) ⟨(Nat.le_of_ble_eq_true rfl), (Nat.le_of_ble_eq_true rfl)⟩ rfl hl.1 rfl (zw_le (zw_I zw_nil) (Nat.le_of_ble_eq_true rfl)) dX2_needsAgain_21) (cl_fl)))) (fun v21 => ?_)
    refine rk_ite (fun _ _ _ _ _ k1 k2 => lv_icmp_ge (tgt := 188) hx hb dX2_needsAgain_26 (by decide) k1 k2) (fun c_26 => ?_) (fun c_26 => ?_)
    · exact hJ x3 ls (lv_sub hl [3] rfl)
    · refine rk_ofs (fun _ _ _ _ _ k => lv_iconst (v := (-1)) hx hb dX2_needsAgain_29 rfl (lr_istore hx hb dX2_needsAgain_30 hl (Nat.le_of_ble_eq_true rfl) [0, 1, 2, 3, 4] rfl ⟨trivial, ⟨trivial, ⟨trivial, ⟨trivial, ⟨rfl, trivial⟩⟩⟩⟩⟩ k)) (fun ls hl => ?_)
      refine rk_ofs (fun _ _ _ _ _ k => lv_iconst (v := 0) hx hb dX2_needsAgain_32 rfl (lr_istore hx hb dX2_needsAgain_33 hl (Nat.le_of_ble_eq_true rfl) [0, 1, 2, 3, 4, 5] rfl ⟨rfl, ⟨trivial, ⟨trivial, ⟨trivial, ⟨trivial, ⟨trivial, trivial⟩⟩⟩⟩⟩⟩ k)) (fun ls hl => ?_)
      refine rk_join (β := Int32) (fun (b114 : Int32) ls => lv_has ls 7 [(0, va_rf p0), (1, va_rf p1), (2, va_rf p2), (3, .int x3), (4, .int x4), (5, .int b114)]) (fun (b114 : Int32) ls => F0 m 114 ls []) (fun b114 ls hl => ?_) (fun hJ114 => ?_)
      · refine rk_of (fun _ _ _ _ _ k => lr_aload_n hx hb dX2_needsAgain_114 rfl (lv_at hl 2 rfl) (lv_iload hx hb dX2_needsAgain_115 (lv_at hl 5 rfl) (lv_iconst (v := 1) hx hb dX2_needsAgain_117 rfl k))) ?_
        refine rk_zast C H.2.2.1 dX2_needsAgain_118 ?_
        refine rk_ofs (fun _ _ _ _ _ k => lv_iconst (v := 0) hx hb dX2_needsAgain_119 rfl (lr_istore hx hb dX2_needsAgain_120 hl (Nat.le_of_ble_eq_true rfl) [0, 1, 2, 3, 4, 5] rfl ⟨trivial, ⟨trivial, ⟨trivial, ⟨trivial, ⟨trivial, ⟨rfl, trivial⟩⟩⟩⟩⟩⟩ k)) (fun ls hl => ?_)
        refine rk_join (β := Int32) (fun (b152 : Int32) ls => lv_has ls 7 [(0, va_rf p0), (1, va_rf p1), (2, va_rf p2), (3, .int x3), (4, .int x4), (5, .int b114), (6, .int b152)]) (fun (b152 : Int32) ls => F0 m 152 ls []) (fun b152 ls hl => ?_) (fun hJ152 => ?_)
        · refine rk_of (fun _ _ _ _ _ k => lr_aload_n hx hb dX2_needsAgain_152 rfl (lv_at hl 1 rfl) (lv_iload hx hb dX2_needsAgain_153 (lv_at hl 6 rfl) (lr_aload_n hx hb dX2_needsAgain_155 rfl (lv_at hl 0 rfl) k))) ?_
          refine rk_get zm_rdR_eq C (hc_X2 H) (k := 2) (Nat.le_of_ble_eq_true rfl) in_X2 q199 (fun _ h => h) dX2_needsAgain_156 (fun v156 => ?_)
          refine rk_of (fun _ _ _ _ _ k => lv_iload hx hb dX2_needsAgain_159 (lv_at hl 5 rfl) k) ?_
          refine rk_callR hX (cl_dsp (fun ci => cl_case (cl_F (n := 1) (rest := [.int b152, va_rf p1]) (av := [.int b114]) C (hc_J2 H) (ct_J2_get H v156 b114) (lw_F q1064 q1067 q847 q105 q848) (zh_Fw H C (by decide) q1066 q1065 q1069 q1068 q309) (by decide +kernel) ⟨(Nat.le_of_ble_eq_true rfl), (Nat.le_of_ble_eq_true rfl)⟩ rfl hl.1 rfl (zw_le (zw_I (zw_R zw_nil)) (Nat.le_of_ble_eq_true rfl)) dX2_needsAgain_161) (cl_case (cl_F (n := 1) (rest := [.int b152, va_rf p1]) (av := [.int b114]) C (hc_J4 H) (ct_J4_get H v156 b114) (lw_F q1064 q1070 q860 q107 q861) (zh_Fw H C (by decide) q1066 q1065 q1072 q1071 q336) (by decide +kernel) ⟨(Nat.le_of_ble_eq_true rfl), (Nat.le_of_ble_eq_true rfl)⟩ rfl hl.1 rfl (zw_le (zw_I (zw_R zw_nil)) (Nat.le_of_ble_eq_true rfl)) dX2_needsAgain_161) (cl_fl)))) (fun v161 => ?_)
          refine rk_chk C q993 (zc_cons (zc_s (hc_X8 H)) zc_nil) zp_nil dX2_needsAgain_166 ?_
          refine rk_callI hX (cl_V (rest := [.int b152, va_rf p1]) (av := []) C (hc_X8 H) (ct_X8_to H v161) (lw_V q1074 q1040 q3080 q141 q1042) ⟨rfl, hd_X8_to⟩ ⟨(Nat.le_of_ble_eq_true rfl), (Nat.le_of_ble_eq_true rfl)⟩ rfl hl.1 rfl (zw_le (zw_I (zw_R zw_nil)) (Nat.le_of_ble_eq_true rfl)) dX2_needsAgain_169) (fun v169 => ?_)
          refine rk_iast C H.2.2.1 dX2_needsAgain_172 ?_
          refine rk_of (fun _ _ _ _ _ k => lv_iload_n hx hb dX2_needsAgain_173 rfl (lv_at hl 3 rfl) (lv_iload hx hb dX2_needsAgain_174 (lv_at hl 6 rfl) (lv_iconst (v := 1) hx hb dX2_needsAgain_176 rfl (lv_iadd hx hb dX2_needsAgain_177 k)))) ?_
          refine rk_mmax C hl.1 q1075 q436 q122 q437 (Nat.le_of_ble_eq_true rfl) (zw_ad zw_nil (Nat.le_of_ble_eq_true rfl)) dX2_needsAgain_178 (fun v178 => ?_)
          refine rk_ofs (fun _ _ _ _ _ k => lr_istore_n hx hb dX2_needsAgain_181 rfl hl (Nat.le_of_ble_eq_true rfl) [0, 1, 2, 4] rfl ⟨trivial, ⟨trivial, ⟨(by first | exact va_rf_cat _ | rfl), ⟨trivial, trivial⟩⟩⟩⟩ k) (fun ls hl => ?_)
          refine rk_ofs (fun _ _ _ _ _ k => lr_iinc (v := x4 + 1) hx hb dX2_needsAgain_182 hl (k := 4) rfl rfl (Nat.le_of_ble_eq_true rfl) [0, 1, 2, 3] rfl ⟨rfl, ⟨trivial, ⟨trivial, ⟨trivial, trivial⟩⟩⟩⟩ k) (fun ls hl => ?_)
          refine rk_of (fun _ _ _ _ _ k => lv_goto (tgt := 15) hx hb dX2_needsAgain_185 (by decide) k) ?_
          exact ih v178 (x4 + 1) J ls (lv_sub hl [2, 3, 4, 1, 0] rfl) hJ
        · exact rf_X2_needsAgain_122 H C hX p0 p1 p2 x3 x4 b114 zm_N 0 _ ls (lv_sub hl [1, 2, 3, 4, 5, 6, 0] rfl) hJ152
      · exact rf_X2_needsAgain_35 H C hX p0 p1 p2 x3 x4 zm_N (-1) 0 _ ls (lv_sub hl [2, 3, 4, 5, 6, 1, 0] rfl) hJ114
theorem ct_X2_needsAgain {l : Launch} {Ω : zm_W} {K : zm_K} (H : zm_H Ω K) (a0 : zm_R) : zm_Ct l Ω yX2_needsAgain (ws_ yX2_needsAgain cX2_needsAgain 7 (Option.some Jvm.ClassFile.FieldType.int)) 10 254 [va_rf a0] zm_tvI (fn_X2_needsAgain K a0) := by
  refine zm_ct H.1 (by decide +kernel) (zl_le (zl_R zl_nil) (Nat.le_of_ble_eq_true rfl)) ?_
  intro p e R s m args below meth c n0 k0 C hX ls hl
  have hx := C.1
  have hb := C.2.1
  simp only [zg_R, zg_nil] at hl
  have hl : lv_has ls 7 [(0, va_rf a0)] := hl
  refine rk_rf ?_
  unfold fn_X2_needsAgain
  refine rk_of (fun _ _ _ _ _ k => lv_bipush (v := 12) hx hb dX2_needsAgain_0 rfl k) ?_
  refine rk_newa C (atype := .int) rfl 0 rfl (fun _ _ h => h) (fun _ _ => rfl) q1076 dX2_needsAgain_2 (fun v2 => ?_)
  refine rk_ofs (fun _ _ _ _ _ k => lr_astore_n hx hb dX2_needsAgain_4 rfl hl (Nat.le_of_ble_eq_true rfl) [0] rfl ⟨(by first | exact va_rf_cat _ | rfl), trivial⟩ k) (fun ls hl => ?_)
  refine rk_of (fun _ _ _ _ _ k => lv_bipush (v := 12) hx hb dX2_needsAgain_5 rfl k) ?_
  refine rk_newa C (atype := .boolean) rfl 1 rfl (fun _ _ h => h) (fun _ _ => rfl) q1077 dX2_needsAgain_7 (fun v7 => ?_)
  refine rk_ofs (fun _ _ _ _ _ k => lr_astore_n hx hb dX2_needsAgain_9 rfl hl (Nat.le_of_ble_eq_true rfl) [0, 1] rfl ⟨(by first | exact va_rf_cat _ | rfl), ⟨trivial, trivial⟩⟩ k) (fun ls hl => ?_)
  refine rk_ofs (fun _ _ _ _ _ k => lv_iconst (v := 0) hx hb dX2_needsAgain_10 rfl (lr_istore_n hx hb dX2_needsAgain_11 rfl hl (Nat.le_of_ble_eq_true rfl) [0, 1, 2] rfl ⟨(by first | exact va_rf_cat _ | rfl), ⟨trivial, ⟨trivial, trivial⟩⟩⟩ k)) (fun ls hl => ?_)
  refine rk_ofs (fun _ _ _ _ _ k => lv_iconst (v := 0) hx hb dX2_needsAgain_12 rfl (lr_istore hx hb dX2_needsAgain_13 hl (Nat.le_of_ble_eq_true rfl) [0, 1, 2, 3] rfl ⟨rfl, ⟨trivial, ⟨trivial, ⟨trivial, trivial⟩⟩⟩⟩ k)) (fun ls hl => ?_)
  refine rk_join (β := Int32) (fun (b188 : Int32) ls => lv_has ls 7 [(3, .int b188)]) (fun (b188 : Int32) ls => F0 m 188 ls []) (fun b188 ls hl => ?_) (fun hJ188 => ?_)
  · refine rk_of (fun _ _ _ _ _ k => lv_iload_n hx hb dX2_needsAgain_188 rfl (lv_at hl 0 rfl) k) ?_
    exact rk_top (rf_iret C rfl dX2_needsAgain_189)
  · exact rf_X2_needsAgain_15 H C hX a0 (some v2) (some v7) zm_N 0 0 _ ls (lv_sub hl [4, 3, 2, 1, 0] rfl) hJ188
theorem hd_X1_needsAgain : yX1_needsAgain.cls ≠ "java/lang/invoke/MethodHandle" ∧ yX1_needsAgain.cls ≠ "java/lang/invoke/VarHandle" ∧ (parseMethodDescriptor yX1_needsAgain.desc).map (fun d => d.parameters.length) = some 0 := by decide +kernel
noncomputable def fn_X1_needsAgain (K : zm_K) (a0 : zm_R) : zm_M Int32 :=
  zm_bnd (zm_getR a0 18 0) fun v1 =>
  zm_bnd (zm_bnd (zm_is v1 19) fun _ => fn_X2_needsAgain K v1) fun v4 =>
  zm_ret v4
theorem ct_X1_needsAgain {l : Launch} {Ω : zm_W} {K : zm_K} (H : zm_H Ω K) (a0 : zm_R) : zm_Ct l Ω yX1_needsAgain (ws_ yX1_needsAgain cX1_needsAgain 1 (Option.some Jvm.ClassFile.FieldType.int)) 11 280 [va_rf a0] zm_tvI (fn_X1_needsAgain K a0) := by
  refine zm_ct H.1 (by decide +kernel) (zl_le (zl_R zl_nil) (Nat.le_of_ble_eq_true rfl)) ?_
  intro p e R s m args below meth c n0 k0 C hX ls hl
  have hx := C.1
  have hb := C.2.1
  simp only [zg_R, zg_nil] at hl
  have hl : lv_has ls 1 [(0, va_rf a0)] := hl
  refine rk_rf ?_
  unfold fn_X1_needsAgain
  refine rk_of (fun _ _ _ _ _ k => lr_aload_n hx hb dX1_needsAgain_0 rfl (lv_at hl 0 rfl) k) ?_
  refine rk_get zm_rdR_eq C (hc_X1 H) (k := 0) (Nat.le_of_ble_eq_true rfl) in_X1 q271 (fun _ h => h) dX1_needsAgain_1 (fun v1 => ?_)
  refine rk_callI hX (cl_V (rest := []) (av := []) C (hc_X2 H) (ct_X2_needsAgain H v1) (lw_V q1049 q1050 q1051 q102 q1052) ⟨rfl, hd_X2_needsAgain⟩ ⟨(Nat.le_of_ble_eq_true rfl), (Nat.le_of_ble_eq_true rfl)⟩ rfl hl.1 rfl (zw_le zw_nil (Nat.le_of_ble_eq_true rfl)) dX1_needsAgain_4) (fun v4 => ?_)
  exact rk_top (rf_iret C rfl dX1_needsAgain_7)
theorem hd_X1_allot : yX1_allot.cls ≠ "java/lang/invoke/MethodHandle" ∧ yX1_allot.cls ≠ "java/lang/invoke/VarHandle" ∧ (parseMethodDescriptor yX1_allot.desc).map (fun d => d.parameters.length) = some 0 := by decide +kernel
noncomputable def fn_X1_allot (K : zm_K) (a0 : zm_R) : zm_M Int32 :=
  zm_bnd (zm_bnd (zm_is a0 18) fun _ => fn_X1_changed K a0 (K.2 108)) fun v6 =>
  zm_ret v6
theorem ct_X1_allot {l : Launch} {Ω : zm_W} {K : zm_K} (H : zm_H Ω K) (a0 : zm_R) : zm_Ct l Ω yX1_allot (ws_ yX1_allot cX1_allot 1 (Option.some Jvm.ClassFile.FieldType.int)) 22 3200 [va_rf a0] zm_tvI (fn_X1_allot K a0) := by
  refine zm_ctN H.1 (by decide +kernel) (zl_le (zl_R zl_nil) (Nat.le_of_ble_eq_true rfl)) ?_
  intro p e R s m args below meth c n0 k0 C hX hN ls hl
  have hx := C.1
  have hb := C.2.1
  simp only [zg_R, zg_nil] at hl
  have hl : lv_has ls 1 [(0, va_rf a0)] := hl
  refine rk_rf ?_
  unfold fn_X1_allot
  refine rk_of (fun _ _ _ _ _ k => lr_aload_n hx hb dX1_allot_0 rfl (lv_at hl 0 rfl) (zs_lamC H C hN (i := 8) rfl rfl hl.1 (zw_ad (zw_R zw_nil) (Nat.le_of_ble_eq_true rfl)) dX1_allot_1 k)) ?_
  refine rk_callI hX (cl_VX (rest := []) (av := [va_rf (K.2 108)]) C (hc_X1 H) (ct_X1_changed H a0 (K.2 108)) (lw_VW q1262 q1264 qs12 q101 q1265) ⟨rfl, hd_X1_changed⟩ ⟨(Nat.le_of_ble_eq_true rfl), (Nat.le_of_ble_eq_true rfl)⟩ rfl hl.1 rfl (zw_le zw_nil (Nat.le_of_ble_eq_true rfl)) dX1_allot_6) (fun v6 => ?_)
  exact rk_top (rf_iret C rfl dX1_allot_9)
theorem hd_X0_allot : yX0_allot.cls ≠ "java/lang/invoke/MethodHandle" ∧ yX0_allot.cls ≠ "java/lang/invoke/VarHandle" ∧ (parseMethodDescriptor yX0_allot.desc).map (fun d => d.parameters.length) = some 2 := by decide +kernel
noncomputable def fn_X0_allot (K : zm_K) (a0 : zm_R) (a1 : zm_R) : zm_M Int32 :=
  zm_cth (zm_bnd (zm_is a0 18) fun _ => fn_X1_allot K a0) (fun (E3 : String) (q3 : Nat) =>
      if E3 ∈ (["java/lang/UnsupportedOperationException"] : List String) then
        zm_ret 1
      else
        if E3 ∈ (["java/lang/IllegalArgumentException", "java/lang/IndexOutOfBoundsException", "java/util/NoSuchElementException", "java/lang/ArrayIndexOutOfBoundsException", "java/lang/IllegalStateException", "java/lang/StringIndexOutOfBoundsException", "java/lang/ArithmeticException", "BoxSpans$Refusal", "BoxSpans$TextError"] : List String) then
          zm_thr E3 q3
        else
          zm_fl
    ) fun v3 =>
  zm_bnd (zm_astJ K a1 0 ((v3).toInt64)) fun _ =>
  zm_ret 0
theorem ct_X0_allot {l : Launch} {Ω : zm_W} {K : zm_K} (H : zm_H Ω K) (a0 : zm_R) (a1 : zm_R) : zm_Ct l Ω yX0_allot (wsW_ yX0_allot cX0_allot 3 (Option.some Jvm.ClassFile.FieldType.int) [(0, 8, 11, 15)]) 23 3220 [va_rf a0, va_rf a1] zm_tvI (fn_X0_allot K a0 a1) := by
  refine zm_ctW H.1 (by decide +kernel) (zl_le (zl_R (zl_R zl_nil)) (Nat.le_of_ble_eq_true rfl)) ?_
  intro p e R s m args below meth c n0 k0 C hN hT ls hl
  have hx := C.1
  have hb := C.2.1
  simp only [zg_R, zg_nil] at hl
  have hl : lv_has ls 3 [(0, va_rf a0), (1, va_rf a1)] := hl
  refine rk_rf ?_
  unfold fn_X0_allot
  refine rk_of (fun _ _ _ _ _ k => lr_aload_n hx hb dX0_allot_0 rfl (lv_at hl 1 rfl) (lv_iconst (v := 0) hx hb dX0_allot_1 rfl (lr_aload_n hx hb dX0_allot_2 rfl (lv_at hl 0 rfl) k))) ?_
  refine rk_cthI (cl_V (rest := [.int 0, va_rf a1]) (av := []) C (hc_X1 H) (ct_X1_allot H a0) (lw_V q1725 q1726 q1727 q101 q1728) ⟨rfl, hd_X1_allot⟩ ⟨(Nat.le_of_ble_eq_true rfl), (Nat.le_of_ble_eq_true rfl)⟩ rfl hl.1 rfl (zw_le (zw_I (zw_R zw_nil)) (Nat.le_of_ble_eq_true rfl)) dX0_allot_3) (fun E3 q3 => ?_) (fun v3 => ?_)
  · refine rx_ite (fun h3_0 => ?_) (fun h3_0 => ?_)
    · refine rx_cat (k := 0) C hT rfl zp_nil ⟨by decide, by decide⟩ (by decide) q1127 ((zp_cons (P := fun E => (Cond.castable E "java/lang/UnsupportedOperationException").before args s = true) (zn_wC H C q1357) zp_nil) E3 h3_0) ?_
      refine rk_ofs (fun _ _ _ _ _ k => lr_astore_n hx hb dX0_allot_11 rfl hl (Nat.le_of_ble_eq_true rfl) [] rfl trivial k) (fun ls hl => ?_)
      refine rk_of (fun _ _ _ _ _ k => lv_iconst (v := 1) hx hb dX0_allot_12 rfl k) ?_
      exact rk_top (rf_iret C rfl dX0_allot_13)
    · refine rx_ite (fun h3_x => ?_) (fun _ => rx_fl)
      exact rx_out C hT (zp_cons (Or.inr ⟨by decide, _, q1127, zh_ncs H C (L := ["java/lang/IllegalArgumentException", "java/lang/IndexOutOfBoundsException", "java/util/NoSuchElementException", "java/lang/ArrayIndexOutOfBoundsException", "java/lang/IllegalStateException", "java/lang/StringIndexOutOfBoundsException", "java/lang/ArithmeticException", "BoxSpans$Refusal", "BoxSpans$TextError"]) (by decide) h3_x⟩) zp_nil)
  refine rk_of (fun _ _ _ _ _ k => lv_i2l hx hb dX0_allot_6 rfl k) ?_
  refine rk_last C H.2.2.1 dX0_allot_7 ?_
  refine rk_of (fun _ _ _ _ _ k => lv_goto (tgt := 14) hx hb dX0_allot_8 (by decide) (lv_iconst (v := 0) hx hb dX0_allot_14 rfl k)) ?_
  exact rk_top (rf_iret C rfl dX0_allot_15)
theorem hd_X2_ofBox : yX2_ofBox.cls ≠ "java/lang/invoke/MethodHandle" ∧ yX2_ofBox.cls ≠ "java/lang/invoke/VarHandle" ∧ (parseMethodDescriptor yX2_ofBox.desc).map (fun d => d.parameters.length) = some 2 := by decide +kernel
noncomputable def fn_X2_ofBox_13 (K : zm_K) (p1 : Int32) (p2 : Int32) (p4 : zm_R) : Nat → Int32 → zm_M (Int32)
  | 0, _ => zm_fl
  | n + 1, x3 =>
    zm_bnd (zm_bnd (zm_cls p4) fun ci => if ci = 26 then fn_X10_hasNext K p4 else if ci = 9 then fn_J22_hasNext K p4 else if ci = 11 then fn_J25_hasNext K p4 else zm_fl) fun v15 =>
    if v15 = 0 then
      zm_ret x3
    else
      zm_bnd (zm_bnd (zm_cls p4) fun ci => if ci = 26 then fn_X10_next K p4 else if ci = 9 then fn_J22_next K p4 else if ci = 11 then fn_J25_next K p4 else zm_fl) fun v25 =>
      zm_bnd (zm_chk [23] [] v25) fun _ =>
      zm_bnd (α := Int32) (
          if p2 = 0 then
            zm_ret 1
          else
            if p2 = 1 then
              zm_bnd (zm_bnd (zm_is v25 23) fun _ => fn_X7_length K v25) fun v50 =>
              zm_ret v50
            else
              zm_bnd (zm_bnd (zm_is v25 23) fun _ => fn_X6_coins K v25) fun v58 =>
              zm_ret v58
        ) fun b61 =>
      zm_bnd (zm_bnd (zm_is v25 23) fun _ => fn_X6_isIn K v25 p1) fun v67 =>
      zm_bnd (α := Int32) (
          if v67 = 0 then
            zm_ret 0
          else
            zm_ret b61
        ) fun b79 =>
      fn_X2_ofBox_13 K p1 p2 p4 n (x3 + b79)
noncomputable def fn_X2_ofBox (K : zm_K) (a0 : zm_R) (a1 : Int32) (a2 : Int32) : zm_M Int32 :=
  zm_bnd (zm_getR a0 19 1) fun v3 =>
  zm_bnd (zm_bnd (zm_cls v3) fun ci => if ci = 0 then fn_J2_iterator K v3 else if ci = 1 then fn_J3_iterator K v3 else zm_fl) fun v6 =>
  zm_bnd (α := Int32) (fn_X2_ofBox_13 K a1 a2 v6 zm_N 0) fun b84 =>
  zm_ret b84
theorem rf_X2_ofBox_13 (H : zm_H Ω K) (C : zm_C p l R s m args meth c Ω lw_all cX2_ofBox yX2_ofBox.cls yX2_ofBox.name 7 17 415 (Option.some Jvm.ClassFile.FieldType.int)) (hX : zm_XO p l e R s m args below meth c Ω n0 k0 (zm_QFs below args s Ω n0 k0 zm_tvI)) (p1 : Int32) (p2 : Int32) (p4 : zm_R) : ∀ (n : Nat) (x3 : Int32) (J : (Int32) → zm_M Int32) (ls : Array Slot), lv_has ls 7 [(1, .int p1), (2, .int p2), (4, va_rf p4), (3, .int x3)] → (∀ (b : Int32) (ls : Array Slot), lv_has ls 7 [(3, .int b)] → zm_RK p l e R s m args below meth c Ω n0 k0 (zm_QFs below args s Ω n0 k0 zm_tvI) (zm_ret b) J (F0 m 84 ls [])) → zm_RK p l e R s m args below meth c Ω n0 k0 (zm_QFs below args s Ω n0 k0 zm_tvI) (fn_X2_ofBox_13 K p1 p2 p4 n x3) J (F0 m 13 ls []) := by
  have hx := C.1
  have hb := C.2.1
  intro n
  induction n with
  | zero => intro x3 J ls hl hJ; exact rk_fl
  | succ n ih =>
    intro x3 J ls hl hJ
    unfold fn_X2_ofBox_13
    refine rk_of (fun _ _ _ _ _ k => lr_aload hx hb dX2_ofBox_13 (lv_at hl 2 rfl) k) ?_
    refine rk_callI hX (cl_dsp (fun ci => cl_case (cl_F (n := 0) (rest := []) (av := []) C (hc_X10 H) (ct_X10_hasNext H p4) (lw_F q733 q737 q739 q143 q741) (zh_Fw H C (by decide) q735 q734 q740 q738 q736) (by decide +kernel) ⟨(Nat.le_of_ble_eq_true rfl), (Nat.le_of_ble_eq_true rfl)⟩ rfl hl.1 rfl (zw_le zw_nil (Nat.le_of_ble_eq_true rfl)) dX2_ofBox_15) (cl_case (cl_F (n := 0) (rest := []) (av := []) C (hc_J22 H) (ct_J22_hasNext H p4) (lw_F q733 q758 q760 q129 q762) (zh_Fw H C (by decide) q735 q734 q761 q759 q757) (by decide +kernel) ⟨(Nat.le_of_ble_eq_true rfl), (Nat.le_of_ble_eq_true rfl)⟩ rfl hl.1 rfl (zw_le zw_nil (Nat.le_of_ble_eq_true rfl)) dX2_ofBox_15) (cl_case (cl_F (n := 0) (rest := []) (av := []) C (hc_J25 H) (ct_J25_hasNext H p4) (lw_F q733 q767 q769 q133 q771) (zh_Fw H C (by decide) q735 q734 q770 q768 q766) (by decide +kernel) ⟨(Nat.le_of_ble_eq_true rfl), (Nat.le_of_ble_eq_true rfl)⟩ rfl hl.1 rfl (zw_le zw_nil (Nat.le_of_ble_eq_true rfl)) dX2_ofBox_15) (cl_fl))))) (fun v15 => ?_)
    refine rk_ite (fun _ _ _ _ _ k1 k2 => lv_if_eq (tgt := 84) hx hb dX2_ofBox_20 (by decide) k1 k2) (fun c_20 => ?_) (fun c_20 => ?_)
    · exact hJ x3 ls (lv_sub hl [3] rfl)
    · refine rk_of (fun _ _ _ _ _ k => lr_aload hx hb dX2_ofBox_23 (lv_at hl 2 rfl) k) ?_
      refine rk_callR hX (cl_dsp (fun ci => cl_case (cl_F (n := 0) (rest := []) (av := []) C (hc_X10 H) (ct_X10_next H p4) (lw_F q773 q776 q778 q143 q780) (zh_Fw H C (by decide) q775 q774 q779 q777 q736) (by decide +kernel) ⟨(Nat.le_of_ble_eq_true rfl), (Nat.le_of_ble_eq_true rfl)⟩ rfl hl.1 rfl (zw_le zw_nil (Nat.le_of_ble_eq_true rfl)) dX2_ofBox_25) (cl_case (cl_F (n := 0) (rest := []) (av := []) C (hc_J22 H) (ct_J22_next H p4) (lw_F q773 q966 q968 q129 q970) (zh_Fw H C (by decide) q775 q774 q969 q967 q757) (by decide +kernel) ⟨(Nat.le_of_ble_eq_true rfl), (Nat.le_of_ble_eq_true rfl)⟩ rfl hl.1 rfl (zw_le zw_nil (Nat.le_of_ble_eq_true rfl)) dX2_ofBox_25) (cl_case (cl_F (n := 0) (rest := []) (av := []) C (hc_J25 H) (ct_J25_next H p4) (lw_F q773 q981 q983 q133 q985) (zh_Fw H C (by decide) q775 q774 q984 q982 q766) (by decide +kernel) ⟨(Nat.le_of_ble_eq_true rfl), (Nat.le_of_ble_eq_true rfl)⟩ rfl hl.1 rfl (zw_le zw_nil (Nat.le_of_ble_eq_true rfl)) dX2_ofBox_25) (cl_fl))))) (fun v25 => ?_)
      refine rk_chk C q1094 (zc_cons (zc_s (hc_X6 H)) zc_nil) zp_nil dX2_ofBox_30 ?_
      refine rk_ofs (fun _ _ _ _ _ k => lr_astore hx hb dX2_ofBox_33 hl (Nat.le_of_ble_eq_true rfl) [0, 1, 2, 3] rfl ⟨trivial, ⟨trivial, ⟨(by first | exact va_rf_cat _ | rfl), ⟨trivial, trivial⟩⟩⟩⟩ k) (fun ls hl => ?_)
      refine rk_of (fun _ _ _ _ _ k => lv_iload_n hx hb dX2_ofBox_35 rfl (lv_at hl 2 rfl) k) ?_
      refine rk_join (β := Int32) (fun (b61 : Int32) ls => lv_has ls 7 [(1, .int p1), (2, .int p2), (3, .int x3), (4, va_rf p4), (5, va_rf v25)]) (fun (b61 : Int32) ls => F0 m 61 ls [.int b61]) (fun b61 ls hl => ?_) (fun hJ61 => ?_)
      · refine rk_ofs (fun _ _ _ _ _ k => lr_istore hx hb dX2_ofBox_61 hl (Nat.le_of_ble_eq_true rfl) [0, 1, 2, 3, 4] rfl ⟨trivial, ⟨trivial, ⟨trivial, ⟨trivial, ⟨(by first | exact va_rf_cat _ | rfl), trivial⟩⟩⟩⟩⟩ k) (fun ls hl => ?_)
        refine rk_of (fun _ _ _ _ _ k => lv_iload_n hx hb dX2_ofBox_63 rfl (lv_at hl 3 rfl) (lr_aload hx hb dX2_ofBox_64 (lv_at hl 5 rfl) (lv_iload_n hx hb dX2_ofBox_66 rfl (lv_at hl 1 rfl) k))) ?_
        refine rk_callI hX (cl_V (rest := [.int x3]) (av := [.int p1]) C (hc_X6 H) (ct_X6_isIn H v25 p1) (lw_V q1095 q1096 q1097 q137 q1098) ⟨rfl, hd_X6_isIn⟩ ⟨(Nat.le_of_ble_eq_true rfl), (Nat.le_of_ble_eq_true rfl)⟩ rfl hl.1 rfl (zw_le (zw_I zw_nil) (Nat.le_of_ble_eq_true rfl)) dX2_ofBox_67) (fun v67 => ?_)
        refine rk_join (β := Int32) (fun (b79 : Int32) ls => lv_has ls 7 [(1, .int p1), (2, .int p2), (4, va_rf p4)]) (fun (b79 : Int32) ls => F0 m 79 ls [.int b79, .int x3]) (fun b79 ls hl => ?_) (fun hJ79 => ?_)
        · refine rk_ofs (fun _ _ _ _ _ k => lv_iadd hx hb dX2_ofBox_79 (lr_istore_n hx hb dX2_ofBox_80 rfl hl (Nat.le_of_ble_eq_true rfl) [0, 1, 2] rfl ⟨trivial, ⟨rfl, ⟨trivial, trivial⟩⟩⟩ k)) (fun ls hl => ?_)
          refine rk_of (fun _ _ _ _ _ k => lv_goto (tgt := 13) hx hb dX2_ofBox_81 (by decide) k) ?_
          exact ih (x3 + b79) J ls (lv_sub hl [1, 2, 3, 0] rfl) hJ
        · refine rk_ite (fun _ _ _ _ _ k1 k2 => lv_if_eq (tgt := 78) hx hb dX2_ofBox_70 (by decide) k1 k2) (fun c_70 => ?_) (fun c_70 => ?_)
          · refine rk_of (fun _ _ _ _ _ k => lv_iconst (v := 0) hx hb dX2_ofBox_78 rfl k) ?_
            exact hJ79 0 ls (lv_sub hl [1, 2, 4] rfl)
          · refine rk_of (fun _ _ _ _ _ k => lv_iload hx hb dX2_ofBox_73 (lv_at hl 0 rfl) (lv_goto (tgt := 79) hx hb dX2_ofBox_75 (by decide) k)) ?_
            exact hJ79 b61 ls (lv_sub hl [1, 2, 4] rfl)
      · refine rk_ite (fun _ _ _ _ _ k1 k2 => lv_if_ne (tgt := 43) hx hb dX2_ofBox_36 (by decide) k2 k1) (fun c_36 => ?_) (fun c_36 => ?_)
        · refine rk_of (fun _ _ _ _ _ k => lv_iconst (v := 1) hx hb dX2_ofBox_39 rfl (lv_goto (tgt := 61) hx hb dX2_ofBox_40 (by decide) k)) ?_
          exact hJ61 1 ls (lv_sub hl [1, 2, 4, 3, 0] rfl)
        · refine rk_ite (fun _ _ _ _ _ k1 k2 => lv_iload_n hx hb dX2_ofBox_43 rfl (lv_at hl 2 rfl) (lv_iconst (v := 1) hx hb dX2_ofBox_44 rfl (lv_icmp_ne (tgt := 56) hx hb dX2_ofBox_45 (by decide) k2 k1))) (fun c_45 => ?_) (fun c_45 => ?_)
          · refine rk_of (fun _ _ _ _ _ k => lr_aload hx hb dX2_ofBox_48 (lv_at hl 0 rfl) k) ?_
            refine rk_callI hX (cl_D (n := 0) (rest := []) (av := []) C (hc_X6 H) (ct_X7_length H v25) (lw_meth q1113) q140 ((zh_df H).choose_spec.1 _ (List.mem_of_getElem? (i := 4) rfl)) ((zh_df H).choose_spec.1 _ (List.mem_of_getElem? (i := 5) rfl)) ((zh_df H).choose_spec.2 _ (List.mem_of_getElem? (i := 2) rfl)) (zn_wD H C q1109) q1111 (by decide) (by decide +kernel) ⟨(Nat.le_of_ble_eq_true rfl), (Nat.le_of_ble_eq_true rfl)⟩ rfl hl.1 rfl (zw_le zw_nil (Nat.le_of_ble_eq_true rfl)) dX2_ofBox_50) (fun v50 => ?_)
            refine rk_of (fun _ _ _ _ _ k => lv_goto (tgt := 61) hx hb dX2_ofBox_53 (by decide) k) ?_
            exact hJ61 v50 ls (lv_sub hl [1, 2, 4, 3, 0] rfl)
          · refine rk_of (fun _ _ _ _ _ k => lr_aload hx hb dX2_ofBox_56 (lv_at hl 0 rfl) k) ?_
            refine rk_callI hX (cl_V (rest := []) (av := []) C (hc_X6 H) (ct_X6_coins H v25) (lw_V q1114 q1115 q1116 q137 q1117) ⟨rfl, hd_X6_coins⟩ ⟨(Nat.le_of_ble_eq_true rfl), (Nat.le_of_ble_eq_true rfl)⟩ rfl hl.1 rfl (zw_le zw_nil (Nat.le_of_ble_eq_true rfl)) dX2_ofBox_58) (fun v58 => ?_)
            exact hJ61 v58 ls (lv_sub hl [1, 2, 4, 3, 0] rfl)
theorem ct_X2_ofBox {l : Launch} {Ω : zm_W} {K : zm_K} (H : zm_H Ω K) (a0 : zm_R) (a1 : Int32) (a2 : Int32) : zm_Ct l Ω yX2_ofBox (ws_ yX2_ofBox cX2_ofBox 7 (Option.some Jvm.ClassFile.FieldType.int)) 17 415 [va_rf a0, .int a1, .int a2] zm_tvI (fn_X2_ofBox K a0 a1 a2) := by
  refine zm_ct H.1 (by decide +kernel) (zl_le (zl_R (zl_I (zl_I zl_nil))) (Nat.le_of_ble_eq_true rfl)) ?_
  intro p e R s m args below meth c n0 k0 C hX ls hl
  have hx := C.1
  have hb := C.2.1
  simp only [zg_I, zg_R, zg_nil] at hl
  have hl : lv_has ls 7 [(0, va_rf a0), (1, .int a1), (2, .int a2)] := hl
  refine rk_rf ?_
  unfold fn_X2_ofBox
  refine rk_ofs (fun _ _ _ _ _ k => lv_iconst (v := 0) hx hb dX2_ofBox_0 rfl (lr_istore_n hx hb dX2_ofBox_1 rfl hl (Nat.le_of_ble_eq_true rfl) [0, 1, 2] rfl ⟨trivial, ⟨trivial, ⟨rfl, trivial⟩⟩⟩ k)) (fun ls hl => ?_)
  refine rk_of (fun _ _ _ _ _ k => lr_aload_n hx hb dX2_ofBox_2 rfl (lv_at hl 1 rfl) k) ?_
  refine rk_get zm_rdR_eq C (hc_X2 H) (k := 1) (Nat.le_of_ble_eq_true rfl) in_X2 q198 (fun _ h => h) dX2_ofBox_3 (fun v3 => ?_)
  refine rk_callR hX (cl_dsp (fun ci => cl_case (cl_F (n := 0) (rest := []) (av := []) C (hc_J2 H) (ct_J2_iterator H v3) (lw_F q306 q310 q312 q105 q314) (zh_Fw H C (by decide) q308 q307 q313 q311 q309) (by decide +kernel) ⟨(Nat.le_of_ble_eq_true rfl), (Nat.le_of_ble_eq_true rfl)⟩ rfl hl.1 rfl (zw_le zw_nil (Nat.le_of_ble_eq_true rfl)) dX2_ofBox_6) (cl_case (cl_F (n := 0) (rest := []) (av := []) C (hc_J4 H) (ct_J3_iterator H v3) (lw_F q306 q337 q339 q106 q341) (zh_Fw H C (by decide) q308 q307 q340 q338 q336) (by decide +kernel) ⟨(Nat.le_of_ble_eq_true rfl), (Nat.le_of_ble_eq_true rfl)⟩ rfl hl.1 rfl (zw_le zw_nil (Nat.le_of_ble_eq_true rfl)) dX2_ofBox_6) (cl_fl)))) (fun v6 => ?_)
  refine rk_ofs (fun _ _ _ _ _ k => lr_astore hx hb dX2_ofBox_11 hl (Nat.le_of_ble_eq_true rfl) [0, 2, 3] rfl ⟨rfl, ⟨trivial, ⟨trivial, trivial⟩⟩⟩ k) (fun ls hl => ?_)
  refine rk_join (β := Int32) (fun (b84 : Int32) ls => lv_has ls 7 [(3, .int b84)]) (fun (b84 : Int32) ls => F0 m 84 ls []) (fun b84 ls hl => ?_) (fun hJ84 => ?_)
  · refine rk_of (fun _ _ _ _ _ k => lv_iload_n hx hb dX2_ofBox_84 rfl (lv_at hl 0 rfl) k) ?_
    exact rk_top (rf_iret C rfl dX2_ofBox_85)
  · exact rf_X2_ofBox_13 H C hX a1 a2 v6 zm_N 0 _ ls (lv_sub hl [2, 3, 0, 1] rfl) hJ84
theorem hd_X2_lit : yX2_lit.cls ≠ "java/lang/invoke/MethodHandle" ∧ yX2_lit.cls ≠ "java/lang/invoke/VarHandle" ∧ (parseMethodDescriptor yX2_lit.desc).map (fun d => d.parameters.length) = some 1 := by decide +kernel
noncomputable def fn_X2_lit_43 (K : zm_K) (p1 : Int32) (p2 : zm_R) (p3 : zm_R) (p4 : zm_R) : Nat → Int32 → zm_M (Unit)
  | 0, _ => zm_fl
  | n + 1, x5 =>
    zm_bnd (zm_bnd (zm_is p4 23) fun _ => fn_X6_isIn K p4 p1) fun v46 =>
    if v46 = 0 then
      zm_ret ()
    else
      zm_bnd (zm_bnd (zm_is p4 23) fun _ => fn_X6_to K p4) fun v56 =>
      if v56 ≤ x5 then
        zm_ret ()
      else
        zm_bnd (zm_astI K .boolean p2 x5 1) fun _ =>
        fn_X2_lit_43 K p1 p2 p3 p4 n (x5 + 1)
noncomputable def fn_X2_lit_16 (K : zm_K) (p1 : Int32) (p2 : zm_R) (p3 : zm_R) : Nat → zm_M (Unit)
  | 0 => zm_fl
  | n + 1 =>
    zm_bnd (zm_bnd (zm_cls p3) fun ci => if ci = 26 then fn_X10_hasNext K p3 else if ci = 9 then fn_J22_hasNext K p3 else if ci = 11 then fn_J25_hasNext K p3 else zm_fl) fun v17 =>
    if v17 = 0 then
      zm_ret ()
    else
      zm_bnd (zm_bnd (zm_cls p3) fun ci => if ci = 26 then fn_X10_next K p3 else if ci = 9 then fn_J22_next K p3 else if ci = 11 then fn_J25_next K p3 else zm_fl) fun v26 =>
      zm_bnd (zm_chk [23] [] v26) fun _ =>
      zm_bnd (zm_bnd (zm_is v26 23) fun _ => fn_X6_from K v26) fun v38 =>
      zm_bnd (α := Unit) (fn_X2_lit_43 K p1 p2 p3 v26 zm_N v38) fun (_ : Unit) =>
      fn_X2_lit_16 K p1 p2 p3 n
noncomputable def fn_X2_lit (K : zm_K) (a0 : zm_R) (a1 : Int32) : zm_M zm_R :=
  zm_bnd (zm_newa .boolean (.inl fun _ => 0) 600) fun v3 =>
  zm_bnd (zm_getR a0 19 1) fun v7 =>
  zm_bnd (zm_bnd (zm_cls v7) fun ci => if ci = 0 then fn_J2_iterator K v7 else if ci = 1 then fn_J3_iterator K v7 else zm_fl) fun v10 =>
  zm_bnd (α := Unit) (fn_X2_lit_16 K a1 (some v3) v10 zm_N) fun (_ : Unit) =>
  zm_ret (some v3)
theorem rf_X2_lit_43 (H : zm_H Ω K) (C : zm_C p l R s m args meth c Ω lw_all cX2_lit yX2_lit.cls yX2_lit.name 6 17 415 (Option.some (Jvm.ClassFile.FieldType.array Jvm.ClassFile.FieldType.boolean))) (hX : zm_XO p l e R s m args below meth c Ω n0 k0 (zm_QFs below args s Ω n0 k0 zm_tvR)) (p1 : Int32) (p2 : zm_R) (p3 : zm_R) (p4 : zm_R) : ∀ (n : Nat) (x5 : Int32) (J : (Unit) → zm_M zm_R) (ls : Array Slot), lv_has ls 6 [(1, .int p1), (2, va_rf p2), (3, va_rf p3), (4, va_rf p4), (5, .int x5)] → (∀ (b : Unit) (ls : Array Slot), lv_has ls 6 [(1, .int p1), (2, va_rf p2), (3, va_rf p3)] → zm_RK p l e R s m args below meth c Ω n0 k0 (zm_QFs below args s Ω n0 k0 zm_tvR) (zm_ret b) J (F0 m 73 ls [])) → zm_RK p l e R s m args below meth c Ω n0 k0 (zm_QFs below args s Ω n0 k0 zm_tvR) (fn_X2_lit_43 K p1 p2 p3 p4 n x5) J (F0 m 43 ls []) := by
  have hx := C.1
  have hb := C.2.1
  intro n
  induction n with
  | zero => intro x5 J ls hl hJ; exact rk_fl
  | succ n ih =>
    intro x5 J ls hl hJ
    unfold fn_X2_lit_43
    refine rk_of (fun _ _ _ _ _ k => lr_aload hx hb dX2_lit_43 (lv_at hl 3 rfl) (lv_iload_n hx hb dX2_lit_45 rfl (lv_at hl 0 rfl) k)) ?_
    refine rk_callI hX (cl_V (rest := []) (av := [.int p1]) C (hc_X6 H) (ct_X6_isIn H p4 p1) (lw_V q1095 q1096 q1097 q137 q1098) ⟨rfl, hd_X6_isIn⟩ ⟨(Nat.le_of_ble_eq_true rfl), (Nat.le_of_ble_eq_true rfl)⟩ rfl hl.1 rfl (zw_le zw_nil (Nat.le_of_ble_eq_true rfl)) dX2_lit_46) (fun v46 => ?_)
    refine rk_ite (fun _ _ _ _ _ k1 k2 => lv_if_eq (tgt := 73) hx hb dX2_lit_49 (by decide) k1 k2) (fun c_49 => ?_) (fun c_49 => ?_)
    · exact hJ () ls (lv_sub hl [0, 1, 2] rfl)
    · refine rk_of (fun _ _ _ _ _ k => lv_iload hx hb dX2_lit_52 (lv_at hl 4 rfl) (lr_aload hx hb dX2_lit_54 (lv_at hl 3 rfl) k)) ?_
      refine rk_callI hX (cl_V (rest := [.int x5]) (av := []) C (hc_X6 H) (ct_X6_to H p4) (lw_V q1539 q1031 q3083 q137 q1033) ⟨rfl, hd_X6_to⟩ ⟨(Nat.le_of_ble_eq_true rfl), (Nat.le_of_ble_eq_true rfl)⟩ rfl hl.1 rfl (zw_le (zw_I zw_nil) (Nat.le_of_ble_eq_true rfl)) dX2_lit_56) (fun v56 => ?_)
      refine rk_ite (fun _ _ _ _ _ k1 k2 => lv_icmp_ge (tgt := 73) hx hb dX2_lit_59 (by decide) k1 k2) (fun c_59 => ?_) (fun c_59 => ?_)
      · exact hJ () ls (lv_sub hl [0, 1, 2] rfl)
      · refine rk_of (fun _ _ _ _ _ k => lr_aload_n hx hb dX2_lit_62 rfl (lv_at hl 1 rfl) (lv_iload hx hb dX2_lit_63 (lv_at hl 4 rfl) (lv_iconst (v := 1) hx hb dX2_lit_65 rfl k))) ?_
        refine rk_zast C H.2.2.1 dX2_lit_66 ?_
        refine rk_ofs (fun _ _ _ _ _ k => lr_iinc (v := x5 + 1) hx hb dX2_lit_67 hl (k := 4) rfl rfl (Nat.le_of_ble_eq_true rfl) [0, 1, 2, 3] rfl ⟨trivial, ⟨trivial, ⟨trivial, ⟨(by first | exact va_rf_cat _ | rfl), trivial⟩⟩⟩⟩ k) (fun ls hl => ?_)
        refine rk_of (fun _ _ _ _ _ k => lv_goto (tgt := 43) hx hb dX2_lit_70 (by decide) k) ?_
        exact ih (x5 + 1) J ls (lv_sub hl [1, 2, 3, 4, 0] rfl) hJ
theorem rf_X2_lit_16 (H : zm_H Ω K) (C : zm_C p l R s m args meth c Ω lw_all cX2_lit yX2_lit.cls yX2_lit.name 6 17 415 (Option.some (Jvm.ClassFile.FieldType.array Jvm.ClassFile.FieldType.boolean))) (hX : zm_XO p l e R s m args below meth c Ω n0 k0 (zm_QFs below args s Ω n0 k0 zm_tvR)) (p1 : Int32) (p2 : zm_R) (p3 : zm_R) : ∀ (n : Nat) (J : (Unit) → zm_M zm_R) (ls : Array Slot), lv_has ls 6 [(1, .int p1), (2, va_rf p2), (3, va_rf p3)] → (∀ (b : Unit) (ls : Array Slot), lv_has ls 6 [(2, va_rf p2)] → zm_RK p l e R s m args below meth c Ω n0 k0 (zm_QFs below args s Ω n0 k0 zm_tvR) (zm_ret b) J (F0 m 76 ls [])) → zm_RK p l e R s m args below meth c Ω n0 k0 (zm_QFs below args s Ω n0 k0 zm_tvR) (fn_X2_lit_16 K p1 p2 p3 n) J (F0 m 16 ls []) := by
  have hx := C.1
  have hb := C.2.1
  intro n
  induction n with
  | zero => intro J ls hl hJ; exact rk_fl
  | succ n ih =>
    intro J ls hl hJ
    unfold fn_X2_lit_16
    refine rk_of (fun _ _ _ _ _ k => lr_aload_n hx hb dX2_lit_16 rfl (lv_at hl 2 rfl) k) ?_
    refine rk_callI hX (cl_dsp (fun ci => cl_case (cl_F (n := 0) (rest := []) (av := []) C (hc_X10 H) (ct_X10_hasNext H p3) (lw_F q733 q737 q739 q143 q741) (zh_Fw H C (by decide) q735 q734 q740 q738 q736) (by decide +kernel) ⟨(Nat.le_of_ble_eq_true rfl), (Nat.le_of_ble_eq_true rfl)⟩ rfl hl.1 rfl (zw_le zw_nil (Nat.le_of_ble_eq_true rfl)) dX2_lit_17) (cl_case (cl_F (n := 0) (rest := []) (av := []) C (hc_J22 H) (ct_J22_hasNext H p3) (lw_F q733 q758 q760 q129 q762) (zh_Fw H C (by decide) q735 q734 q761 q759 q757) (by decide +kernel) ⟨(Nat.le_of_ble_eq_true rfl), (Nat.le_of_ble_eq_true rfl)⟩ rfl hl.1 rfl (zw_le zw_nil (Nat.le_of_ble_eq_true rfl)) dX2_lit_17) (cl_case (cl_F (n := 0) (rest := []) (av := []) C (hc_J25 H) (ct_J25_hasNext H p3) (lw_F q733 q767 q769 q133 q771) (zh_Fw H C (by decide) q735 q734 q770 q768 q766) (by decide +kernel) ⟨(Nat.le_of_ble_eq_true rfl), (Nat.le_of_ble_eq_true rfl)⟩ rfl hl.1 rfl (zw_le zw_nil (Nat.le_of_ble_eq_true rfl)) dX2_lit_17) (cl_fl))))) (fun v17 => ?_)
    refine rk_ite (fun _ _ _ _ _ k1 k2 => lv_if_eq (tgt := 76) hx hb dX2_lit_22 (by decide) k1 k2) (fun c_22 => ?_) (fun c_22 => ?_)
    · exact hJ () ls (lv_sub hl [1] rfl)
    · refine rk_of (fun _ _ _ _ _ k => lr_aload_n hx hb dX2_lit_25 rfl (lv_at hl 2 rfl) k) ?_
      refine rk_callR hX (cl_dsp (fun ci => cl_case (cl_F (n := 0) (rest := []) (av := []) C (hc_X10 H) (ct_X10_next H p3) (lw_F q773 q776 q778 q143 q780) (zh_Fw H C (by decide) q775 q774 q779 q777 q736) (by decide +kernel) ⟨(Nat.le_of_ble_eq_true rfl), (Nat.le_of_ble_eq_true rfl)⟩ rfl hl.1 rfl (zw_le zw_nil (Nat.le_of_ble_eq_true rfl)) dX2_lit_26) (cl_case (cl_F (n := 0) (rest := []) (av := []) C (hc_J22 H) (ct_J22_next H p3) (lw_F q773 q966 q968 q129 q970) (zh_Fw H C (by decide) q775 q774 q969 q967 q757) (by decide +kernel) ⟨(Nat.le_of_ble_eq_true rfl), (Nat.le_of_ble_eq_true rfl)⟩ rfl hl.1 rfl (zw_le zw_nil (Nat.le_of_ble_eq_true rfl)) dX2_lit_26) (cl_case (cl_F (n := 0) (rest := []) (av := []) C (hc_J25 H) (ct_J25_next H p3) (lw_F q773 q981 q983 q133 q985) (zh_Fw H C (by decide) q775 q774 q984 q982 q766) (by decide +kernel) ⟨(Nat.le_of_ble_eq_true rfl), (Nat.le_of_ble_eq_true rfl)⟩ rfl hl.1 rfl (zw_le zw_nil (Nat.le_of_ble_eq_true rfl)) dX2_lit_26) (cl_fl))))) (fun v26 => ?_)
      refine rk_chk C q1094 (zc_cons (zc_s (hc_X6 H)) zc_nil) zp_nil dX2_lit_31 ?_
      refine rk_ofs (fun _ _ _ _ _ k => lr_astore hx hb dX2_lit_34 hl (Nat.le_of_ble_eq_true rfl) [0, 1, 2] rfl ⟨trivial, ⟨trivial, ⟨(by first | exact va_rf_cat _ | rfl), trivial⟩⟩⟩ k) (fun ls hl => ?_)
      refine rk_of (fun _ _ _ _ _ k => lr_aload hx hb dX2_lit_36 (lv_at hl 0 rfl) k) ?_
      refine rk_callI hX (cl_V (rest := []) (av := []) C (hc_X6 H) (ct_X6_from H v26) (lw_V q1440 q1007 q3082 q137 q1009) ⟨rfl, hd_X6_from⟩ ⟨(Nat.le_of_ble_eq_true rfl), (Nat.le_of_ble_eq_true rfl)⟩ rfl hl.1 rfl (zw_le zw_nil (Nat.le_of_ble_eq_true rfl)) dX2_lit_38) (fun v38 => ?_)
      refine rk_ofs (fun _ _ _ _ _ k => lr_istore hx hb dX2_lit_41 hl (Nat.le_of_ble_eq_true rfl) [0, 1, 2, 3] rfl ⟨(by first | exact va_rf_cat _ | rfl), ⟨trivial, ⟨trivial, ⟨trivial, trivial⟩⟩⟩⟩ k) (fun ls hl => ?_)
      refine rk_join (β := Unit) (fun (b73 : Unit) ls => lv_has ls 6 [(1, .int p1), (2, va_rf p2), (3, va_rf p3)]) (fun (b73 : Unit) ls => F0 m 73 ls []) (fun b73 ls hl => ?_) (fun hJ73 => ?_)
      · refine rk_of (fun _ _ _ _ _ k => lv_goto (tgt := 16) hx hb dX2_lit_73 (by decide) k) ?_
        exact ih J ls (lv_sub hl [0, 1, 2] rfl) hJ
      · exact rf_X2_lit_43 H C hX p1 p2 p3 v26 zm_N v38 _ ls (lv_sub hl [2, 3, 4, 1, 0] rfl) hJ73
theorem ct_X2_lit {l : Launch} {Ω : zm_W} {K : zm_K} (H : zm_H Ω K) (a0 : zm_R) (a1 : Int32) : zm_Ct l Ω yX2_lit (ws_ yX2_lit cX2_lit 6 (Option.some (Jvm.ClassFile.FieldType.array Jvm.ClassFile.FieldType.boolean))) 17 415 [va_rf a0, .int a1] zm_tvR (fn_X2_lit K a0 a1) := by
  refine zm_ct H.1 (by decide +kernel) (zl_le (zl_R (zl_I zl_nil)) (Nat.le_of_ble_eq_true rfl)) ?_
  intro p e R s m args below meth c n0 k0 C hX ls hl
  have hx := C.1
  have hb := C.2.1
  simp only [zg_I, zg_R, zg_nil] at hl
  have hl : lv_has ls 6 [(0, va_rf a0), (1, .int a1)] := hl
  refine rk_rf ?_
  unfold fn_X2_lit
  refine rk_of (fun _ _ _ _ _ k => lv_sipush (v := 600) hx hb dX2_lit_0 rfl k) ?_
  refine rk_newa C (atype := .boolean) rfl 1 rfl (fun _ _ h => h) (fun _ _ => rfl) q1077 dX2_lit_3 (fun v3 => ?_)
  refine rk_ofs (fun _ _ _ _ _ k => lr_astore_n hx hb dX2_lit_5 rfl hl (Nat.le_of_ble_eq_true rfl) [0, 1] rfl ⟨trivial, ⟨rfl, trivial⟩⟩ k) (fun ls hl => ?_)
  refine rk_of (fun _ _ _ _ _ k => lr_aload_n hx hb dX2_lit_6 rfl (lv_at hl 1 rfl) k) ?_
  refine rk_get zm_rdR_eq C (hc_X2 H) (k := 1) (Nat.le_of_ble_eq_true rfl) in_X2 q198 (fun _ h => h) dX2_lit_7 (fun v7 => ?_)
  refine rk_callR hX (cl_dsp (fun ci => cl_case (cl_F (n := 0) (rest := []) (av := []) C (hc_J2 H) (ct_J2_iterator H v7) (lw_F q306 q310 q312 q105 q314) (zh_Fw H C (by decide) q308 q307 q313 q311 q309) (by decide +kernel) ⟨(Nat.le_of_ble_eq_true rfl), (Nat.le_of_ble_eq_true rfl)⟩ rfl hl.1 rfl (zw_le zw_nil (Nat.le_of_ble_eq_true rfl)) dX2_lit_10) (cl_case (cl_F (n := 0) (rest := []) (av := []) C (hc_J4 H) (ct_J3_iterator H v7) (lw_F q306 q337 q339 q106 q341) (zh_Fw H C (by decide) q308 q307 q340 q338 q336) (by decide +kernel) ⟨(Nat.le_of_ble_eq_true rfl), (Nat.le_of_ble_eq_true rfl)⟩ rfl hl.1 rfl (zw_le zw_nil (Nat.le_of_ble_eq_true rfl)) dX2_lit_10) (cl_fl)))) (fun v10 => ?_)
  refine rk_ofs (fun _ _ _ _ _ k => lr_astore_n hx hb dX2_lit_15 rfl hl (Nat.le_of_ble_eq_true rfl) [0, 2] rfl ⟨(by first | exact va_rf_cat _ | rfl), ⟨trivial, trivial⟩⟩ k) (fun ls hl => ?_)
  refine rk_join (β := Unit) (fun (b76 : Unit) ls => lv_has ls 6 [(2, va_rf (some v3))]) (fun (b76 : Unit) ls => F0 m 76 ls []) (fun b76 ls hl => ?_) (fun hJ76 => ?_)
  · refine rk_of (fun _ _ _ _ _ k => lr_aload_n hx hb dX2_lit_76 rfl (lv_at hl 0 rfl) k) ?_
    exact rk_top (rf_aret C (Or.inr ⟨_, rfl⟩) dX2_lit_77)
  · exact rf_X2_lit_16 H C hX a1 (some v3) v10 zm_N _ ls (lv_sub hl [2, 1, 0] rfl) hJ76
theorem hd_X9_init : yX9_init.cls ≠ "java/lang/invoke/MethodHandle" ∧ yX9_init.cls ≠ "java/lang/invoke/VarHandle" ∧ (parseMethodDescriptor yX9_init.desc).map (fun d => d.parameters.length) = some 1 := by decide +kernel
noncomputable def fn_X9_init (K : zm_K) (a0 : zm_R) (a1 : zm_R) : zm_M Unit :=
  zm_bnd (zm_grd (a0 ≠ none)) fun _ =>
  zm_bnd (zm_putF K a0 25 0 (va_rf a1)) fun _ =>
  zm_ret ()
theorem ct_X9_init {l : Launch} {Ω : zm_W} {K : zm_K} (H : zm_H Ω K) (a0 : zm_R) (a1 : zm_R) : zm_Ct l Ω yX9_init (ws_ yX9_init cX9_init 2 (Option.none : Option Jvm.ClassFile.FieldType)) 2 84 [va_rf a0, va_rf a1] zm_tvV (fn_X9_init K a0 a1) := by
  refine zm_ct H.1 (by decide +kernel) (zl_le (zl_R (zl_R zl_nil)) (Nat.le_of_ble_eq_true rfl)) ?_
  intro p e R s m args below meth c n0 k0 C hX ls hl
  have hx := C.1
  have hb := C.2.1
  simp only [zg_R, zg_nil] at hl
  have hl : lv_has ls 2 [(0, va_rf a0), (1, va_rf a1)] := hl
  refine rk_rf ?_
  unfold fn_X9_init
  refine rk_of (fun _ _ _ _ _ k => lr_aload_n hx hb dX9_init_0 rfl (lv_at hl 0 rfl) k) ?_
  refine rk_grd (fun hg_1 => ?_)
  refine rk_of (fun _ _ _ _ _ k => zo_init C hl.1 q1798 q156 q157 hg_1 (Nat.le_of_ble_eq_true rfl) (zw_le12 zw_nil (Nat.le_of_ble_eq_true rfl)) dX9_init_1 k) ?_
  refine rk_of (fun _ _ _ _ _ k => lr_aload_n hx hb dX9_init_4 rfl (lv_at hl 0 rfl) (lr_aload_n hx hb dX9_init_5 rfl (lv_at hl 1 rfl) k)) ?_
  refine rk_put C H.2.2.1 (hc_X9 H) (k := 0) (Nat.le_of_ble_eq_true rfl) in_X9 (ty0 := tyX9) tyX9_ok nmX9 q1799 (fun _ h => h) (Or.inr ⟨rfl, rfl, rfl⟩) (zn_R rfl _) (zp_R rfl _) dX9_init_6 ?_
  exact rk_top (rf_vret C dX9_init_9)
theorem hd_X2_spans : yX2_spans.cls ≠ "java/lang/invoke/MethodHandle" ∧ yX2_spans.cls ≠ "java/lang/invoke/VarHandle" ∧ (parseMethodDescriptor yX2_spans.desc).map (fun d => d.parameters.length) = some 1 := by decide +kernel
noncomputable def fn_X2_spans (K : zm_K) (a0 : zm_R) (a1 : Int32) : zm_M zm_R :=
  zm_bnd (zm_bnd (zm_is a0 19) fun _ => fn_X2_lit K a0 a1) fun v2 =>
  zm_bnd (zm_new 25 [.null]) fun v6 =>
  zm_bnd (zm_new 109 [va_rf v2]) fun v11 =>
  zm_bnd (fn_X9_init K (some v6) (some v11)) fun _ =>
  zm_ret (some v6)
theorem ct_X2_spans {l : Launch} {Ω : zm_W} {K : zm_K} (H : zm_H Ω K) (a0 : zm_R) (a1 : Int32) : zm_Ct l Ω yX2_spans (ws_ yX2_spans cX2_spans 3 (Option.some (Jvm.ClassFile.FieldType.object "BoxSpans$Runs"))) 18 3200 [va_rf a0, .int a1] zm_tvR (fn_X2_spans K a0 a1) := by
  refine zm_ctN H.1 (by decide +kernel) (zl_le (zl_R (zl_I zl_nil)) (Nat.le_of_ble_eq_true rfl)) ?_
  intro p e R s m args below meth c n0 k0 C hX hN ls hl
  have hx := C.1
  have hb := C.2.1
  simp only [zg_I, zg_R, zg_nil] at hl
  have hl : lv_has ls 3 [(0, va_rf a0), (1, .int a1)] := hl
  refine rk_rf ?_
  unfold fn_X2_spans
  refine rk_of (fun _ _ _ _ _ k => lr_aload_n hx hb dX2_spans_0 rfl (lv_at hl 0 rfl) (lv_iload_n hx hb dX2_spans_1 rfl (lv_at hl 1 rfl) k)) ?_
  refine rk_callR hX (cl_V (rest := []) (av := [.int a1]) C (hc_X2 H) (ct_X2_lit H a0 a1) (lw_V q1788 q1789 q1790 q102 q1791) ⟨rfl, hd_X2_lit⟩ ⟨(Nat.le_of_ble_eq_true rfl), (Nat.le_of_ble_eq_true rfl)⟩ rfl hl.1 rfl (zw_le zw_nil (Nat.le_of_ble_eq_true rfl)) dX2_spans_2) (fun v2 => ?_)
  refine rk_ofs (fun _ _ _ _ _ k => lr_astore_n hx hb dX2_spans_5 rfl hl (Nat.le_of_ble_eq_true rfl) [] rfl trivial k) (fun ls hl => ?_)
  refine rk_new C (hc_X9 H) in_X9 tyX9_ok q1792 q812 q142 (fs := [.null]) rfl (fun j hj => zdf_X9 j hj) dX2_spans_6 (fun v6 => ?_)
  refine rk_of (fun _ _ _ _ _ k => lv_dup hx hb dX2_spans_9 (va_rf_cat _) (lr_aload_n hx hb dX2_spans_10 rfl (lv_at hl 0 rfl) k)) ?_
  refine rk_lam H C hN (i := 9) rfl (by decide) zk_ok9 (zh_O H) (vals := [va_rf v2]) (rest := [va_rf (some v6), va_rf (some v6)]) rfl (zk_cons (zn_R rfl _) zk_nil) (zf_cons (zp_R rfl _) zf_nil) hl.1 rfl (zw_ad (zw_R (zw_R (zw_R zw_nil))) (Nat.le_of_ble_eq_true rfl)) dX2_spans_11 (fun v11 => ?_)
  refine rk_callV hX (cl_I (rest := [va_rf (some v6)]) C (ct_X9_init H (some v6) (some v11)) (lw_meth q1797) q142 q1795 q1796 rfl hd_X9_init ⟨(Nat.le_of_ble_eq_true rfl), (Nat.le_of_ble_eq_true rfl)⟩ rfl hl.1 rfl (zw_le (zw_R zw_nil) (Nat.le_of_ble_eq_true rfl)) dX2_spans_16) (fun _ => ?_)
  exact rk_top (rf_aret C (Or.inl ⟨_, rfl⟩) dX2_spans_19)
theorem hd_X10_init : yX10_init.cls ≠ "java/lang/invoke/MethodHandle" ∧ yX10_init.cls ≠ "java/lang/invoke/VarHandle" ∧ (parseMethodDescriptor yX10_init.desc).map (fun d => d.parameters.length) = some 1 := by decide +kernel
noncomputable def fn_X10_init (K : zm_K) (a0 : zm_R) (a1 : zm_R) : zm_M Unit :=
  zm_bnd (zm_putF K a0 26 1 (va_rf a1)) fun _ =>
  zm_bnd (zm_grd (a0 ≠ none)) fun _ =>
  zm_bnd (zm_getR a0 26 1) fun v11 =>
  zm_bnd (zm_bnd (zm_is v11 25) fun _ => fn_X9_skips K v11 0 0) fun v16 =>
  zm_bnd (zm_putF K a0 26 0 (.int v16)) fun _ =>
  zm_ret ()
theorem ct_X10_init {l : Launch} {Ω : zm_W} {K : zm_K} (H : zm_H Ω K) (a0 : zm_R) (a1 : zm_R) : zm_Ct l Ω yX10_init (ws_ yX10_init cX10_init 2 (Option.none : Option Jvm.ClassFile.FieldType)) 4 129 [va_rf a0, va_rf a1] zm_tvV (fn_X10_init K a0 a1) := by
  refine zm_ct H.1 (by decide +kernel) (zl_le (zl_R (zl_R zl_nil)) (Nat.le_of_ble_eq_true rfl)) ?_
  intro p e R s m args below meth c n0 k0 C hX ls hl
  have hx := C.1
  have hb := C.2.1
  simp only [zg_R, zg_nil] at hl
  have hl : lv_has ls 2 [(0, va_rf a0), (1, va_rf a1)] := hl
  refine rk_rf ?_
  unfold fn_X10_init
  refine rk_of (fun _ _ _ _ _ k => lr_aload_n hx hb dX10_init_0 rfl (lv_at hl 0 rfl) (lr_aload_n hx hb dX10_init_1 rfl (lv_at hl 1 rfl) k)) ?_
  refine rk_put C H.2.2.1 (hc_X10 H) (k := 1) (Nat.le_of_ble_eq_true rfl) in_X10 (ty0 := tyX10) tyX10_ok nmX10 q1818 (fun _ h => h) (Or.inr ⟨rfl, rfl, rfl⟩) (zn_R rfl _) (zp_R rfl _) dX10_init_2 ?_
  refine rk_of (fun _ _ _ _ _ k => lr_aload_n hx hb dX10_init_5 rfl (lv_at hl 0 rfl) k) ?_
  refine rk_grd (fun hg_6 => ?_)
  refine rk_of (fun _ _ _ _ _ k => zo_init C hl.1 q1816 q156 q157 hg_6 (Nat.le_of_ble_eq_true rfl) (zw_le12 zw_nil (Nat.le_of_ble_eq_true rfl)) dX10_init_6 k) ?_
  refine rk_of (fun _ _ _ _ _ k => lr_aload_n hx hb dX10_init_9 rfl (lv_at hl 0 rfl) (lr_aload_n hx hb dX10_init_10 rfl (lv_at hl 0 rfl) k)) ?_
  refine rk_get zm_rdR_eq C (hc_X10 H) (k := 1) (Nat.le_of_ble_eq_true rfl) in_X10 q1818 (fun _ h => h) dX10_init_11 (fun v11 => ?_)
  refine rk_of (fun _ _ _ _ _ k => lv_iconst (v := 0) hx hb dX10_init_14 rfl (lv_iconst (v := 0) hx hb dX10_init_15 rfl k)) ?_
  refine rk_callI hX (cl_VN (rest := [va_rf a0]) (av := [.int 0, .int 0]) C (hc_X9 H) (ct_X9_skips H v11 0 0) (lw_meth q813) q142 (zn_wM H C q809) q811 qs6 hd_X9_skips ⟨(Nat.le_of_ble_eq_true rfl), (Nat.le_of_ble_eq_true rfl)⟩ rfl hl.1 rfl (zw_le (zw_R zw_nil) (Nat.le_of_ble_eq_true rfl)) dX10_init_16) (fun v16 => ?_)
  refine rk_put C H.2.2.1 (hc_X10 H) (k := 0) (Nat.le_of_ble_eq_true rfl) in_X10 (ty0 := tyX10) tyX10_ok nmX10 q1817 (fun _ h => h) (Or.inl rfl) rfl rfl dX10_init_19 ?_
  exact rk_top (rf_vret C dX10_init_22)
theorem hd_X9_iterator : yX9_iterator.cls ≠ "java/lang/invoke/MethodHandle" ∧ yX9_iterator.cls ≠ "java/lang/invoke/VarHandle" ∧ (parseMethodDescriptor yX9_iterator.desc).map (fun d => d.parameters.length) = some 0 := by decide +kernel
noncomputable def fn_X9_iterator (K : zm_K) (a0 : zm_R) : zm_M zm_R :=
  zm_bnd (zm_new 26 [.int 0, .null]) fun v0 =>
  zm_bnd (fn_X10_init K (some v0) a0) fun _ =>
  zm_ret (some v0)
theorem ct_X9_iterator {l : Launch} {Ω : zm_W} {K : zm_K} (H : zm_H Ω K) (a0 : zm_R) : zm_Ct l Ω yX9_iterator (ws_ yX9_iterator cX9_iterator 1 (Option.some (Jvm.ClassFile.FieldType.object "java/util/Iterator"))) 5 150 [va_rf a0] zm_tvR (fn_X9_iterator K a0) := by
  refine zm_ct H.1 (by decide +kernel) (zl_le (zl_R zl_nil) (Nat.le_of_ble_eq_true rfl)) ?_
  intro p e R s m args below meth c n0 k0 C hX ls hl
  have hx := C.1
  have hb := C.2.1
  simp only [zg_R, zg_nil] at hl
  have hl : lv_has ls 1 [(0, va_rf a0)] := hl
  refine rk_rf ?_
  unfold fn_X9_iterator
  refine rk_new C (hc_X10 H) in_X10 tyX10_ok q1811 q1812 q143 (fs := [.int 0, .null]) rfl (fun j hj => zdf_X10 j hj) dX9_iterator_0 (fun v0 => ?_)
  refine rk_of (fun _ _ _ _ _ k => lv_dup hx hb dX9_iterator_3 (va_rf_cat _) (lr_aload_n hx hb dX9_iterator_4 rfl (lv_at hl 0 rfl) k)) ?_
  refine rk_callV hX (cl_I (rest := [va_rf (some v0)]) C (ct_X10_init H (some v0) a0) (lw_meth q1815) q143 q1813 q1814 rfl hd_X10_init ⟨(Nat.le_of_ble_eq_true rfl), (Nat.le_of_ble_eq_true rfl)⟩ rfl hl.1 rfl (zw_le (zw_R zw_nil) (Nat.le_of_ble_eq_true rfl)) dX9_iterator_5) (fun _ => ?_)
  exact rk_top (rf_aret C (Or.inl ⟨_, rfl⟩) dX9_iterator_8)
theorem hd_X9_many : yX9_many.cls ≠ "java/lang/invoke/MethodHandle" ∧ yX9_many.cls ≠ "java/lang/invoke/VarHandle" ∧ (parseMethodDescriptor yX9_many.desc).map (fun d => d.parameters.length) = some 0 := by decide +kernel
noncomputable def fn_X9_many_7 (K : zm_K) (p2 : zm_R) : Nat → Int32 → zm_M (Int32)
  | 0, _ => zm_fl
  | n + 1, x1 =>
    zm_bnd (zm_bnd (zm_cls p2) fun ci => if ci = 26 then fn_X10_hasNext K p2 else if ci = 9 then fn_J22_hasNext K p2 else if ci = 11 then fn_J25_hasNext K p2 else zm_fl) fun v8 =>
    if v8 = 0 then
      zm_ret x1
    else
      zm_bnd (zm_bnd (zm_cls p2) fun ci => if ci = 26 then fn_X10_next K p2 else if ci = 9 then fn_J22_next K p2 else if ci = 11 then fn_J25_next K p2 else zm_fl) fun v17 =>
      zm_bnd (zm_chk [22] [] v17) fun _ =>
      zm_bnd (zm_bnd (zm_is v17 22) fun _ => fn_X7_length K v17) fun v28 =>
      zm_bnd (α := Int32) (
          if v28 ≤ 0 then
            zm_ret 0
          else
            zm_ret 1
        ) fun b39 =>
      fn_X9_many_7 K p2 n (x1 + b39)
noncomputable def fn_X9_many (K : zm_K) (a0 : zm_R) : zm_M Int32 :=
  zm_bnd (zm_bnd (zm_is a0 25) fun _ => fn_X9_iterator K a0) fun v3 =>
  zm_bnd (α := Int32) (fn_X9_many_7 K v3 zm_N 0) fun b44 =>
  zm_ret b44
theorem rf_X9_many_7 (H : zm_H Ω K) (C : zm_C p l R s m args meth c Ω lw_all cX9_many yX9_many.cls yX9_many.name 4 17 415 (Option.some Jvm.ClassFile.FieldType.int)) (hX : zm_XO p l e R s m args below meth c Ω n0 k0 (zm_QFs below args s Ω n0 k0 zm_tvI)) (p2 : zm_R) : ∀ (n : Nat) (x1 : Int32) (J : (Int32) → zm_M Int32) (ls : Array Slot), lv_has ls 4 [(2, va_rf p2), (1, .int x1)] → (∀ (b : Int32) (ls : Array Slot), lv_has ls 4 [(1, .int b)] → zm_RK p l e R s m args below meth c Ω n0 k0 (zm_QFs below args s Ω n0 k0 zm_tvI) (zm_ret b) J (F0 m 44 ls [])) → zm_RK p l e R s m args below meth c Ω n0 k0 (zm_QFs below args s Ω n0 k0 zm_tvI) (fn_X9_many_7 K p2 n x1) J (F0 m 7 ls []) := by
  have hx := C.1
  have hb := C.2.1
  intro n
  induction n with
  | zero => intro x1 J ls hl hJ; exact rk_fl
  | succ n ih =>
    intro x1 J ls hl hJ
    unfold fn_X9_many_7
    refine rk_of (fun _ _ _ _ _ k => lr_aload_n hx hb dX9_many_7 rfl (lv_at hl 0 rfl) k) ?_
    refine rk_callI hX (cl_dsp (fun ci => cl_case (cl_F (n := 0) (rest := []) (av := []) C (hc_X10 H) (ct_X10_hasNext H p2) (lw_F q1825 q737 q739 q143 q741) (zh_Fw H C (by decide) q735 q734 q740 q738 q736) (by decide +kernel) ⟨(Nat.le_of_ble_eq_true rfl), (Nat.le_of_ble_eq_true rfl)⟩ rfl hl.1 rfl (zw_le zw_nil (Nat.le_of_ble_eq_true rfl)) dX9_many_8) (cl_case (cl_F (n := 0) (rest := []) (av := []) C (hc_J22 H) (ct_J22_hasNext H p2) (lw_F q1825 q758 q760 q129 q762) (zh_Fw H C (by decide) q735 q734 q761 q759 q757) (by decide +kernel) ⟨(Nat.le_of_ble_eq_true rfl), (Nat.le_of_ble_eq_true rfl)⟩ rfl hl.1 rfl (zw_le zw_nil (Nat.le_of_ble_eq_true rfl)) dX9_many_8) (cl_case (cl_F (n := 0) (rest := []) (av := []) C (hc_J25 H) (ct_J25_hasNext H p2) (lw_F q1825 q767 q769 q133 q771) (zh_Fw H C (by decide) q735 q734 q770 q768 q766) (by decide +kernel) ⟨(Nat.le_of_ble_eq_true rfl), (Nat.le_of_ble_eq_true rfl)⟩ rfl hl.1 rfl (zw_le zw_nil (Nat.le_of_ble_eq_true rfl)) dX9_many_8) (cl_fl))))) (fun v8 => ?_)
    refine rk_ite (fun _ _ _ _ _ k1 k2 => lv_if_eq (tgt := 44) hx hb dX9_many_13 (by decide) k1 k2) (fun c_13 => ?_) (fun c_13 => ?_)
    · exact hJ x1 ls (lv_sub hl [1] rfl)
    · refine rk_of (fun _ _ _ _ _ k => lr_aload_n hx hb dX9_many_16 rfl (lv_at hl 0 rfl) k) ?_
      refine rk_callR hX (cl_dsp (fun ci => cl_case (cl_F (n := 0) (rest := []) (av := []) C (hc_X10 H) (ct_X10_next H p2) (lw_F q1827 q776 q778 q143 q780) (zh_Fw H C (by decide) q775 q774 q779 q777 q736) (by decide +kernel) ⟨(Nat.le_of_ble_eq_true rfl), (Nat.le_of_ble_eq_true rfl)⟩ rfl hl.1 rfl (zw_le zw_nil (Nat.le_of_ble_eq_true rfl)) dX9_many_17) (cl_case (cl_F (n := 0) (rest := []) (av := []) C (hc_J22 H) (ct_J22_next H p2) (lw_F q1827 q966 q968 q129 q970) (zh_Fw H C (by decide) q775 q774 q969 q967 q757) (by decide +kernel) ⟨(Nat.le_of_ble_eq_true rfl), (Nat.le_of_ble_eq_true rfl)⟩ rfl hl.1 rfl (zw_le zw_nil (Nat.le_of_ble_eq_true rfl)) dX9_many_17) (cl_case (cl_F (n := 0) (rest := []) (av := []) C (hc_J25 H) (ct_J25_next H p2) (lw_F q1827 q981 q983 q133 q985) (zh_Fw H C (by decide) q775 q774 q984 q982 q766) (by decide +kernel) ⟨(Nat.le_of_ble_eq_true rfl), (Nat.le_of_ble_eq_true rfl)⟩ rfl hl.1 rfl (zw_le zw_nil (Nat.le_of_ble_eq_true rfl)) dX9_many_17) (cl_fl))))) (fun v17 => ?_)
      refine rk_chk C q1828 (zc_cons (zc_s (hc_X5 H)) zc_nil) zp_nil dX9_many_22 ?_
      refine rk_ofs (fun _ _ _ _ _ k => lr_astore_n hx hb dX9_many_25 rfl hl (Nat.le_of_ble_eq_true rfl) [0, 1] rfl ⟨(by first | exact va_rf_cat _ | rfl), ⟨trivial, trivial⟩⟩ k) (fun ls hl => ?_)
      refine rk_of (fun _ _ _ _ _ k => lv_iload_n hx hb dX9_many_26 rfl (lv_at hl 2 rfl) (lr_aload_n hx hb dX9_many_27 rfl (lv_at hl 0 rfl) k)) ?_
      refine rk_callI hX (cl_D (n := 0) (rest := [.int x1]) (av := []) C (hc_X5 H) (ct_X7_length H v17) (lw_meth q1113) q140 ((zh_df H).choose_spec.1 _ (List.mem_of_getElem? (i := 13) rfl)) ((zh_df H).choose_spec.1 _ (List.mem_of_getElem? (i := 8) rfl)) ((zh_df H).choose_spec.2 _ (List.mem_of_getElem? (i := 3) rfl)) (zn_wD H C q1109) q1111 (by decide) (by decide +kernel) ⟨(Nat.le_of_ble_eq_true rfl), (Nat.le_of_ble_eq_true rfl)⟩ rfl hl.1 rfl (zw_le (zw_I zw_nil) (Nat.le_of_ble_eq_true rfl)) dX9_many_28) (fun v28 => ?_)
      refine rk_join (β := Int32) (fun (b39 : Int32) ls => lv_has ls 4 [(2, va_rf p2)]) (fun (b39 : Int32) ls => F0 m 39 ls [.int b39, .int x1]) (fun b39 ls hl => ?_) (fun hJ39 => ?_)
      · refine rk_ofs (fun _ _ _ _ _ k => lv_iadd hx hb dX9_many_39 (lr_istore_n hx hb dX9_many_40 rfl hl (Nat.le_of_ble_eq_true rfl) [0] rfl ⟨trivial, trivial⟩ k)) (fun ls hl => ?_)
        refine rk_of (fun _ _ _ _ _ k => lv_goto (tgt := 7) hx hb dX9_many_41 (by decide) k) ?_
        exact ih (x1 + b39) J ls (lv_sub hl [1, 0] rfl) hJ
      · refine rk_ite (fun _ _ _ _ _ k1 k2 => lv_if_le (tgt := 38) hx hb dX9_many_31 (by decide) k1 k2) (fun c_31 => ?_) (fun c_31 => ?_)
        · refine rk_of (fun _ _ _ _ _ k => lv_iconst (v := 0) hx hb dX9_many_38 rfl k) ?_
          exact hJ39 0 ls (lv_sub hl [1] rfl)
        · refine rk_of (fun _ _ _ _ _ k => lv_iconst (v := 1) hx hb dX9_many_34 rfl (lv_goto (tgt := 39) hx hb dX9_many_35 (by decide) k)) ?_
          exact hJ39 1 ls (lv_sub hl [1] rfl)
theorem ct_X9_many {l : Launch} {Ω : zm_W} {K : zm_K} (H : zm_H Ω K) (a0 : zm_R) : zm_Ct l Ω yX9_many (ws_ yX9_many cX9_many 4 (Option.some Jvm.ClassFile.FieldType.int)) 17 415 [va_rf a0] zm_tvI (fn_X9_many K a0) := by
  refine zm_ct H.1 (by decide +kernel) (zl_le (zl_R zl_nil) (Nat.le_of_ble_eq_true rfl)) ?_
  intro p e R s m args below meth c n0 k0 C hX ls hl
  have hx := C.1
  have hb := C.2.1
  simp only [zg_R, zg_nil] at hl
  have hl : lv_has ls 4 [(0, va_rf a0)] := hl
  refine rk_rf ?_
  unfold fn_X9_many
  refine rk_ofs (fun _ _ _ _ _ k => lv_iconst (v := 0) hx hb dX9_many_0 rfl (lr_istore_n hx hb dX9_many_1 rfl hl (Nat.le_of_ble_eq_true rfl) [0] rfl ⟨(by first | exact va_rf_cat _ | rfl), trivial⟩ k)) (fun ls hl => ?_)
  refine rk_of (fun _ _ _ _ _ k => lr_aload_n hx hb dX9_many_2 rfl (lv_at hl 1 rfl) k) ?_
  refine rk_callR hX (cl_V (rest := []) (av := []) C (hc_X9 H) (ct_X9_iterator H a0) (lw_V q1807 q1808 q1809 q142 q1810) ⟨rfl, hd_X9_iterator⟩ ⟨(Nat.le_of_ble_eq_true rfl), (Nat.le_of_ble_eq_true rfl)⟩ rfl hl.1 rfl (zw_le zw_nil (Nat.le_of_ble_eq_true rfl)) dX9_many_3) (fun v3 => ?_)
  refine rk_ofs (fun _ _ _ _ _ k => lr_astore_n hx hb dX9_many_6 rfl hl (Nat.le_of_ble_eq_true rfl) [0] rfl ⟨rfl, trivial⟩ k) (fun ls hl => ?_)
  refine rk_join (β := Int32) (fun (b44 : Int32) ls => lv_has ls 4 [(1, .int b44)]) (fun (b44 : Int32) ls => F0 m 44 ls []) (fun b44 ls hl => ?_) (fun hJ44 => ?_)
  · refine rk_of (fun _ _ _ _ _ k => lv_iload_n hx hb dX9_many_44 rfl (lv_at hl 0 rfl) k) ?_
    exact rk_top (rf_iret C rfl dX9_many_45)
  · exact rf_X9_many_7 H C hX v3 zm_N 0 _ ls (lv_sub hl [0, 1] rfl) hJ44
theorem hd_X2_gaps : yX2_gaps.cls ≠ "java/lang/invoke/MethodHandle" ∧ yX2_gaps.cls ≠ "java/lang/invoke/VarHandle" ∧ (parseMethodDescriptor yX2_gaps.desc).map (fun d => d.parameters.length) = some 1 := by decide +kernel
noncomputable def fn_X2_gaps (K : zm_K) (a0 : zm_R) (a1 : Int32) : zm_M zm_R :=
  zm_bnd (zm_bnd (zm_is a0 19) fun _ => fn_X2_lit K a0 a1) fun v2 =>
  zm_bnd (zm_new 25 [.null]) fun v6 =>
  zm_bnd (zm_new 110 [va_rf v2]) fun v11 =>
  zm_bnd (fn_X9_init K (some v6) (some v11)) fun _ =>
  zm_ret (some v6)
theorem ct_X2_gaps {l : Launch} {Ω : zm_W} {K : zm_K} (H : zm_H Ω K) (a0 : zm_R) (a1 : Int32) : zm_Ct l Ω yX2_gaps (ws_ yX2_gaps cX2_gaps 3 (Option.some (Jvm.ClassFile.FieldType.object "BoxSpans$Runs"))) 18 3200 [va_rf a0, .int a1] zm_tvR (fn_X2_gaps K a0 a1) := by
  refine zm_ctN H.1 (by decide +kernel) (zl_le (zl_R (zl_I zl_nil)) (Nat.le_of_ble_eq_true rfl)) ?_
  intro p e R s m args below meth c n0 k0 C hX hN ls hl
  have hx := C.1
  have hb := C.2.1
  simp only [zg_I, zg_R, zg_nil] at hl
  have hl : lv_has ls 3 [(0, va_rf a0), (1, .int a1)] := hl
  refine rk_rf ?_
  unfold fn_X2_gaps
  refine rk_of (fun _ _ _ _ _ k => lr_aload_n hx hb dX2_gaps_0 rfl (lv_at hl 0 rfl) (lv_iload_n hx hb dX2_gaps_1 rfl (lv_at hl 1 rfl) k)) ?_
  refine rk_callR hX (cl_V (rest := []) (av := [.int a1]) C (hc_X2 H) (ct_X2_lit H a0 a1) (lw_V q1788 q1789 q1790 q102 q1791) ⟨rfl, hd_X2_lit⟩ ⟨(Nat.le_of_ble_eq_true rfl), (Nat.le_of_ble_eq_true rfl)⟩ rfl hl.1 rfl (zw_le zw_nil (Nat.le_of_ble_eq_true rfl)) dX2_gaps_2) (fun v2 => ?_)
  refine rk_ofs (fun _ _ _ _ _ k => lr_astore_n hx hb dX2_gaps_5 rfl hl (Nat.le_of_ble_eq_true rfl) [] rfl trivial k) (fun ls hl => ?_)
  refine rk_new C (hc_X9 H) in_X9 tyX9_ok q1792 q812 q142 (fs := [.null]) rfl (fun j hj => zdf_X9 j hj) dX2_gaps_6 (fun v6 => ?_)
  refine rk_of (fun _ _ _ _ _ k => lv_dup hx hb dX2_gaps_9 (va_rf_cat _) (lr_aload_n hx hb dX2_gaps_10 rfl (lv_at hl 0 rfl) k)) ?_
  refine rk_lam H C hN (i := 10) rfl (by decide) zk_ok10 (zh_O H) (vals := [va_rf v2]) (rest := [va_rf (some v6), va_rf (some v6)]) rfl (zk_cons (zn_R rfl _) zk_nil) (zf_cons (zp_R rfl _) zf_nil) hl.1 rfl (zw_ad (zw_R (zw_R (zw_R zw_nil))) (Nat.le_of_ble_eq_true rfl)) dX2_gaps_11 (fun v11 => ?_)
  refine rk_callV hX (cl_I (rest := [va_rf (some v6)]) C (ct_X9_init H (some v6) (some v11)) (lw_meth q1797) q142 q1795 q1796 rfl hd_X9_init ⟨(Nat.le_of_ble_eq_true rfl), (Nat.le_of_ble_eq_true rfl)⟩ rfl hl.1 rfl (zw_le (zw_R zw_nil) (Nat.le_of_ble_eq_true rfl)) dX2_gaps_16) (fun _ => ?_)
  exact rk_top (rf_aret C (Or.inl ⟨_, rfl⟩) dX2_gaps_19)
theorem hd_X9_longest : yX9_longest.cls ≠ "java/lang/invoke/MethodHandle" ∧ yX9_longest.cls ≠ "java/lang/invoke/VarHandle" ∧ (parseMethodDescriptor yX9_longest.desc).map (fun d => d.parameters.length) = some 0 := by decide +kernel
noncomputable def fn_X9_longest_7 (K : zm_K) (p2 : zm_R) : Nat → Int32 → zm_M (Int32)
  | 0, _ => zm_fl
  | n + 1, x1 =>
    zm_bnd (zm_bnd (zm_cls p2) fun ci => if ci = 26 then fn_X10_hasNext K p2 else if ci = 9 then fn_J22_hasNext K p2 else if ci = 11 then fn_J25_hasNext K p2 else zm_fl) fun v8 =>
    if v8 = 0 then
      zm_ret x1
    else
      zm_bnd (zm_bnd (zm_cls p2) fun ci => if ci = 26 then fn_X10_next K p2 else if ci = 9 then fn_J22_next K p2 else if ci = 11 then fn_J25_next K p2 else zm_fl) fun v17 =>
      zm_bnd (zm_chk [22] [] v17) fun _ =>
      zm_bnd (zm_bnd (zm_is v17 22) fun _ => fn_X7_length K v17) fun v28 =>
      zm_bnd (zm_ret (if (x1 < v28 : Prop) then (v28 : Int32) else x1)) fun v31 =>
      fn_X9_longest_7 K p2 n v31
noncomputable def fn_X9_longest (K : zm_K) (a0 : zm_R) : zm_M Int32 :=
  zm_bnd (zm_bnd (zm_is a0 25) fun _ => fn_X9_iterator K a0) fun v3 =>
  zm_bnd (α := Int32) (fn_X9_longest_7 K v3 zm_N 0) fun b38 =>
  zm_ret b38
theorem rf_X9_longest_7 (H : zm_H Ω K) (C : zm_C p l R s m args meth c Ω lw_all cX9_longest yX9_longest.cls yX9_longest.name 4 17 415 (Option.some Jvm.ClassFile.FieldType.int)) (hX : zm_XO p l e R s m args below meth c Ω n0 k0 (zm_QFs below args s Ω n0 k0 zm_tvI)) (p2 : zm_R) : ∀ (n : Nat) (x1 : Int32) (J : (Int32) → zm_M Int32) (ls : Array Slot), lv_has ls 4 [(2, va_rf p2), (1, .int x1)] → (∀ (b : Int32) (ls : Array Slot), lv_has ls 4 [(1, .int b)] → zm_RK p l e R s m args below meth c Ω n0 k0 (zm_QFs below args s Ω n0 k0 zm_tvI) (zm_ret b) J (F0 m 38 ls [])) → zm_RK p l e R s m args below meth c Ω n0 k0 (zm_QFs below args s Ω n0 k0 zm_tvI) (fn_X9_longest_7 K p2 n x1) J (F0 m 7 ls []) := by
  have hx := C.1
  have hb := C.2.1
  intro n
  induction n with
  | zero => intro x1 J ls hl hJ; exact rk_fl
  | succ n ih =>
    intro x1 J ls hl hJ
    unfold fn_X9_longest_7
    refine rk_of (fun _ _ _ _ _ k => lr_aload_n hx hb dX9_longest_7 rfl (lv_at hl 0 rfl) k) ?_
    refine rk_callI hX (cl_dsp (fun ci => cl_case (cl_F (n := 0) (rest := []) (av := []) C (hc_X10 H) (ct_X10_hasNext H p2) (lw_F q1825 q737 q739 q143 q741) (zh_Fw H C (by decide) q735 q734 q740 q738 q736) (by decide +kernel) ⟨(Nat.le_of_ble_eq_true rfl), (Nat.le_of_ble_eq_true rfl)⟩ rfl hl.1 rfl (zw_le zw_nil (Nat.le_of_ble_eq_true rfl)) dX9_longest_8) (cl_case (cl_F (n := 0) (rest := []) (av := []) C (hc_J22 H) (ct_J22_hasNext H p2) (lw_F q1825 q758 q760 q129 q762) (zh_Fw H C (by decide) q735 q734 q761 q759 q757) (by decide +kernel) ⟨(Nat.le_of_ble_eq_true rfl), (Nat.le_of_ble_eq_true rfl)⟩ rfl hl.1 rfl (zw_le zw_nil (Nat.le_of_ble_eq_true rfl)) dX9_longest_8) (cl_case (cl_F (n := 0) (rest := []) (av := []) C (hc_J25 H) (ct_J25_hasNext H p2) (lw_F q1825 q767 q769 q133 q771) (zh_Fw H C (by decide) q735 q734 q770 q768 q766) (by decide +kernel) ⟨(Nat.le_of_ble_eq_true rfl), (Nat.le_of_ble_eq_true rfl)⟩ rfl hl.1 rfl (zw_le zw_nil (Nat.le_of_ble_eq_true rfl)) dX9_longest_8) (cl_fl))))) (fun v8 => ?_)
    refine rk_ite (fun _ _ _ _ _ k1 k2 => lv_if_eq (tgt := 38) hx hb dX9_longest_13 (by decide) k1 k2) (fun c_13 => ?_) (fun c_13 => ?_)
    · exact hJ x1 ls (lv_sub hl [1] rfl)
    · refine rk_of (fun _ _ _ _ _ k => lr_aload_n hx hb dX9_longest_16 rfl (lv_at hl 0 rfl) k) ?_
      refine rk_callR hX (cl_dsp (fun ci => cl_case (cl_F (n := 0) (rest := []) (av := []) C (hc_X10 H) (ct_X10_next H p2) (lw_F q1827 q776 q778 q143 q780) (zh_Fw H C (by decide) q775 q774 q779 q777 q736) (by decide +kernel) ⟨(Nat.le_of_ble_eq_true rfl), (Nat.le_of_ble_eq_true rfl)⟩ rfl hl.1 rfl (zw_le zw_nil (Nat.le_of_ble_eq_true rfl)) dX9_longest_17) (cl_case (cl_F (n := 0) (rest := []) (av := []) C (hc_J22 H) (ct_J22_next H p2) (lw_F q1827 q966 q968 q129 q970) (zh_Fw H C (by decide) q775 q774 q969 q967 q757) (by decide +kernel) ⟨(Nat.le_of_ble_eq_true rfl), (Nat.le_of_ble_eq_true rfl)⟩ rfl hl.1 rfl (zw_le zw_nil (Nat.le_of_ble_eq_true rfl)) dX9_longest_17) (cl_case (cl_F (n := 0) (rest := []) (av := []) C (hc_J25 H) (ct_J25_next H p2) (lw_F q1827 q981 q983 q133 q985) (zh_Fw H C (by decide) q775 q774 q984 q982 q766) (by decide +kernel) ⟨(Nat.le_of_ble_eq_true rfl), (Nat.le_of_ble_eq_true rfl)⟩ rfl hl.1 rfl (zw_le zw_nil (Nat.le_of_ble_eq_true rfl)) dX9_longest_17) (cl_fl))))) (fun v17 => ?_)
      refine rk_chk C q1828 (zc_cons (zc_s (hc_X5 H)) zc_nil) zp_nil dX9_longest_22 ?_
      refine rk_ofs (fun _ _ _ _ _ k => lr_astore_n hx hb dX9_longest_25 rfl hl (Nat.le_of_ble_eq_true rfl) [0, 1] rfl ⟨(by first | exact va_rf_cat _ | rfl), ⟨trivial, trivial⟩⟩ k) (fun ls hl => ?_)
      refine rk_of (fun _ _ _ _ _ k => lv_iload_n hx hb dX9_longest_26 rfl (lv_at hl 2 rfl) (lr_aload_n hx hb dX9_longest_27 rfl (lv_at hl 0 rfl) k)) ?_
      refine rk_callI hX (cl_D (n := 0) (rest := [.int x1]) (av := []) C (hc_X5 H) (ct_X7_length H v17) (lw_meth q1113) q140 ((zh_df H).choose_spec.1 _ (List.mem_of_getElem? (i := 13) rfl)) ((zh_df H).choose_spec.1 _ (List.mem_of_getElem? (i := 8) rfl)) ((zh_df H).choose_spec.2 _ (List.mem_of_getElem? (i := 3) rfl)) (zn_wD H C q1109) q1111 (by decide) (by decide +kernel) ⟨(Nat.le_of_ble_eq_true rfl), (Nat.le_of_ble_eq_true rfl)⟩ rfl hl.1 rfl (zw_le (zw_I zw_nil) (Nat.le_of_ble_eq_true rfl)) dX9_longest_28) (fun v28 => ?_)
      refine rk_mmax C hl.1 q1839 q436 q122 q437 (Nat.le_of_ble_eq_true rfl) (zw_ad zw_nil (Nat.le_of_ble_eq_true rfl)) dX9_longest_31 (fun v31 => ?_)
      refine rk_ofs (fun _ _ _ _ _ k => lr_istore_n hx hb dX9_longest_34 rfl hl (Nat.le_of_ble_eq_true rfl) [1] rfl ⟨trivial, trivial⟩ k) (fun ls hl => ?_)
      refine rk_of (fun _ _ _ _ _ k => lv_goto (tgt := 7) hx hb dX9_longest_35 (by decide) k) ?_
      exact ih v31 J ls (lv_sub hl [1, 0] rfl) hJ
theorem ct_X9_longest {l : Launch} {Ω : zm_W} {K : zm_K} (H : zm_H Ω K) (a0 : zm_R) : zm_Ct l Ω yX9_longest (ws_ yX9_longest cX9_longest 4 (Option.some Jvm.ClassFile.FieldType.int)) 17 415 [va_rf a0] zm_tvI (fn_X9_longest K a0) := by
  refine zm_ct H.1 (by decide +kernel) (zl_le (zl_R zl_nil) (Nat.le_of_ble_eq_true rfl)) ?_
  intro p e R s m args below meth c n0 k0 C hX ls hl
  have hx := C.1
  have hb := C.2.1
  simp only [zg_R, zg_nil] at hl
  have hl : lv_has ls 4 [(0, va_rf a0)] := hl
  refine rk_rf ?_
  unfold fn_X9_longest
  refine rk_ofs (fun _ _ _ _ _ k => lv_iconst (v := 0) hx hb dX9_longest_0 rfl (lr_istore_n hx hb dX9_longest_1 rfl hl (Nat.le_of_ble_eq_true rfl) [0] rfl ⟨(by first | exact va_rf_cat _ | rfl), trivial⟩ k)) (fun ls hl => ?_)
  refine rk_of (fun _ _ _ _ _ k => lr_aload_n hx hb dX9_longest_2 rfl (lv_at hl 1 rfl) k) ?_
  refine rk_callR hX (cl_V (rest := []) (av := []) C (hc_X9 H) (ct_X9_iterator H a0) (lw_V q1807 q1808 q1809 q142 q1810) ⟨rfl, hd_X9_iterator⟩ ⟨(Nat.le_of_ble_eq_true rfl), (Nat.le_of_ble_eq_true rfl)⟩ rfl hl.1 rfl (zw_le zw_nil (Nat.le_of_ble_eq_true rfl)) dX9_longest_3) (fun v3 => ?_)
  refine rk_ofs (fun _ _ _ _ _ k => lr_astore_n hx hb dX9_longest_6 rfl hl (Nat.le_of_ble_eq_true rfl) [0] rfl ⟨rfl, trivial⟩ k) (fun ls hl => ?_)
  refine rk_join (β := Int32) (fun (b38 : Int32) ls => lv_has ls 4 [(1, .int b38)]) (fun (b38 : Int32) ls => F0 m 38 ls []) (fun b38 ls hl => ?_) (fun hJ38 => ?_)
  · refine rk_of (fun _ _ _ _ _ k => lv_iload_n hx hb dX9_longest_38 rfl (lv_at hl 0 rfl) k) ?_
    exact rk_top (rf_iret C rfl dX9_longest_39)
  · exact rf_X9_longest_7 H C hX v3 zm_N 0 _ ls (lv_sub hl [0, 1] rfl) hJ38
theorem hd_X1_boxOf : yX1_boxOf.cls ≠ "java/lang/invoke/MethodHandle" ∧ yX1_boxOf.cls ≠ "java/lang/invoke/VarHandle" ∧ (parseMethodDescriptor yX1_boxOf.desc).map (fun d => d.parameters.length) = some 2 := by decide +kernel
noncomputable def fn_X1_boxOf (K : zm_K) (a0 : zm_R) (a1 : Int32) (a2 : Int32) : zm_M Int32 :=
  zm_bnd (zm_bnd (zm_is a0 18) fun _ => fn_X1_requireBox K a0 a1) fun _ =>
  if a2 = 0 then
    zm_bnd (zm_getR a0 18 0) fun v49 =>
    zm_bnd (zm_bnd (zm_is v49 19) fun _ => fn_X2_seats K v49 a1) fun v53 =>
    zm_ret v53
  else
    if a2 = 1 then
      zm_bnd (zm_getR a0 18 0) fun v60 =>
      zm_bnd (zm_bnd (zm_is v60 19) fun _ => fn_X2_ofBox K v60 a1 (a2 - 1)) fun v67 =>
      zm_ret v67
    else
      if a2 = 2 then
        zm_bnd (zm_getR a0 18 0) fun v60 =>
        zm_bnd (zm_bnd (zm_is v60 19) fun _ => fn_X2_ofBox K v60 a1 (a2 - 1)) fun v67 =>
        zm_ret v67
      else
        if a2 = 3 then
          zm_bnd (zm_getR a0 18 0) fun v74 =>
          zm_bnd (zm_bnd (zm_is v74 19) fun _ => fn_X2_spans K v74 a1) fun v78 =>
          zm_bnd (zm_bnd (zm_is v78 25) fun _ => fn_X9_many K v78) fun v81 =>
          zm_ret v81
        else
          if a2 = 4 then
            zm_bnd (zm_getR a0 18 0) fun v88 =>
            zm_bnd (zm_bnd (zm_is v88 19) fun _ => fn_X2_gaps K v88 a1) fun v92 =>
            zm_bnd (zm_bnd (zm_is v92 25) fun _ => fn_X9_many K v92) fun v95 =>
            zm_ret v95
          else
            if a2 = 5 then
              zm_bnd (zm_getR a0 18 0) fun v102 =>
              zm_bnd (zm_bnd (zm_is v102 19) fun _ => fn_X2_gaps K v102 a1) fun v106 =>
              zm_bnd (zm_bnd (zm_is v106 25) fun _ => fn_X9_longest K v106) fun v109 =>
              zm_ret v109
            else
              if a2 = 6 then
                zm_bnd (zm_getR a0 18 0) fun v116 =>
                zm_bnd (zm_bnd (zm_is v116 19) fun _ => fn_X2_ofBox K v116 a1 2) fun v121 =>
                zm_ret v121
              else
                zm_bnd (zm_new 5 [.null, .null, .null, .null, .null, .int 0]) fun v127 =>
                zm_bnd (fn_J12_init_2 K (some v127)) fun _ =>
                zm_ath (some v127)
theorem ct_X1_boxOf {l : Launch} {Ω : zm_W} {K : zm_K} (H : zm_H Ω K) (a0 : zm_R) (a1 : Int32) (a2 : Int32) : zm_Ct l Ω yX1_boxOf (ws_ yX1_boxOf cX1_boxOf 3 (Option.some Jvm.ClassFile.FieldType.int)) 19 3222 [va_rf a0, .int a1, .int a2] zm_tvI (fn_X1_boxOf K a0 a1 a2) := by
  refine zm_ct H.1 (by decide +kernel) (zl_le (zl_R (zl_I (zl_I zl_nil))) (Nat.le_of_ble_eq_true rfl)) ?_
  intro p e R s m args below meth c n0 k0 C hX ls hl
  have hx := C.1
  have hb := C.2.1
  simp only [zg_I, zg_R, zg_nil] at hl
  have hl : lv_has ls 3 [(0, va_rf a0), (1, .int a1), (2, .int a2)] := hl
  refine rk_rf ?_
  unfold fn_X1_boxOf
  refine rk_of (fun _ _ _ _ _ k => lr_aload_n hx hb dX1_boxOf_0 rfl (lv_at hl 0 rfl) (lv_iload_n hx hb dX1_boxOf_1 rfl (lv_at hl 1 rfl) k)) ?_
  refine rk_callV hX (cl_V (rest := []) (av := [.int a1]) C (hc_X1 H) (ct_X1_requireBox H a0 a1) (lw_V q1393 q1395 qs15 q101 q1396) ⟨rfl, hd_X1_requireBox⟩ ⟨(Nat.le_of_ble_eq_true rfl), (Nat.le_of_ble_eq_true rfl)⟩ rfl hl.1 rfl (zw_le zw_nil (Nat.le_of_ble_eq_true rfl)) dX1_boxOf_2) (fun _ => ?_)
  refine rk_of (fun _ _ _ _ _ k => lv_iload_n hx hb dX1_boxOf_5 rfl (lv_at hl 2 rfl) k) ?_
  refine rk_case (fun c_6_0 => ?_) (fun c_6_0 => ?_)
  · refine rk_of (fun _ _ _ _ _ k => by rw [c_6_0]; exact lv_tableIn (off := 42) (tgt := 48) hx hb dX1_boxOf_6 (by decide) (by decide) rfl (by decide) k) ?_
    refine rk_of (fun _ _ _ _ _ k => lr_aload_n hx hb dX1_boxOf_48 rfl (lv_at hl 0 rfl) k) ?_
    refine rk_get zm_rdR_eq C (hc_X1 H) (k := 0) (Nat.le_of_ble_eq_true rfl) in_X1 q271 (fun _ h => h) dX1_boxOf_49 (fun v49 => ?_)
    refine rk_of (fun _ _ _ _ _ k => lv_iload_n hx hb dX1_boxOf_52 rfl (lv_at hl 1 rfl) k) ?_
    refine rk_callI hX (cl_V (rest := []) (av := [.int a1]) C (hc_X2 H) (ct_X2_seats H v49 a1) (lw_V q1782 q1421 q1422 q102 q1423) ⟨rfl, hd_X2_seats⟩ ⟨(Nat.le_of_ble_eq_true rfl), (Nat.le_of_ble_eq_true rfl)⟩ rfl hl.1 rfl (zw_le zw_nil (Nat.le_of_ble_eq_true rfl)) dX1_boxOf_53) (fun v53 => ?_)
    refine rk_of (fun _ _ _ _ _ k => lv_goto (tgt := 135) hx hb dX1_boxOf_56 (by decide) k) ?_
    exact rk_top (rf_iret C rfl dX1_boxOf_135)
  · refine rk_case (fun c_6_1 => ?_) (fun c_6_1 => ?_)
    · refine rk_of (fun _ _ _ _ _ k => by rw [c_6_1]; exact lv_tableIn (off := 53) (tgt := 59) hx hb dX1_boxOf_6 (by decide) (by decide) rfl (by decide) k) ?_
      refine rk_of (fun _ _ _ _ _ k => lr_aload_n hx hb dX1_boxOf_59 rfl (lv_at hl 0 rfl) k) ?_
      refine rk_get zm_rdR_eq C (hc_X1 H) (k := 0) (Nat.le_of_ble_eq_true rfl) in_X1 q271 (fun _ h => h) dX1_boxOf_60 (fun v60 => ?_)
      refine rk_of (fun _ _ _ _ _ k => lv_iload_n hx hb dX1_boxOf_63 rfl (lv_at hl 1 rfl) (lv_iload_n hx hb dX1_boxOf_64 rfl (lv_at hl 2 rfl) (lv_iconst (v := 1) hx hb dX1_boxOf_65 rfl (lv_isub hx hb dX1_boxOf_66 k)))) ?_
      refine rk_callI hX (cl_V (rest := []) (av := [.int a1, .int (a2 - 1)]) C (hc_X2 H) (ct_X2_ofBox H v60 a1 (a2 - 1)) (lw_V q1783 q1106 q1107 q102 q1108) ⟨rfl, hd_X2_ofBox⟩ ⟨(Nat.le_of_ble_eq_true rfl), (Nat.le_of_ble_eq_true rfl)⟩ rfl hl.1 rfl (zw_le zw_nil (Nat.le_of_ble_eq_true rfl)) dX1_boxOf_67) (fun v67 => ?_)
      refine rk_of (fun _ _ _ _ _ k => lv_goto (tgt := 135) hx hb dX1_boxOf_70 (by decide) k) ?_
      exact rk_top (rf_iret C rfl dX1_boxOf_135)
    · refine rk_case (fun c_6_2 => ?_) (fun c_6_2 => ?_)
      · refine rk_of (fun _ _ _ _ _ k => by rw [c_6_2]; exact lv_tableIn (off := 53) (tgt := 59) hx hb dX1_boxOf_6 (by decide) (by decide) rfl (by decide) k) ?_
        refine rk_of (fun _ _ _ _ _ k => lr_aload_n hx hb dX1_boxOf_59 rfl (lv_at hl 0 rfl) k) ?_
        refine rk_get zm_rdR_eq C (hc_X1 H) (k := 0) (Nat.le_of_ble_eq_true rfl) in_X1 q271 (fun _ h => h) dX1_boxOf_60 (fun v60 => ?_)
        refine rk_of (fun _ _ _ _ _ k => lv_iload_n hx hb dX1_boxOf_63 rfl (lv_at hl 1 rfl) (lv_iload_n hx hb dX1_boxOf_64 rfl (lv_at hl 2 rfl) (lv_iconst (v := 1) hx hb dX1_boxOf_65 rfl (lv_isub hx hb dX1_boxOf_66 k)))) ?_
        refine rk_callI hX (cl_V (rest := []) (av := [.int a1, .int (a2 - 1)]) C (hc_X2 H) (ct_X2_ofBox H v60 a1 (a2 - 1)) (lw_V q1783 q1106 q1107 q102 q1108) ⟨rfl, hd_X2_ofBox⟩ ⟨(Nat.le_of_ble_eq_true rfl), (Nat.le_of_ble_eq_true rfl)⟩ rfl hl.1 rfl (zw_le zw_nil (Nat.le_of_ble_eq_true rfl)) dX1_boxOf_67) (fun v67 => ?_)
        refine rk_of (fun _ _ _ _ _ k => lv_goto (tgt := 135) hx hb dX1_boxOf_70 (by decide) k) ?_
        exact rk_top (rf_iret C rfl dX1_boxOf_135)
      · refine rk_case (fun c_6_3 => ?_) (fun c_6_3 => ?_)
        · refine rk_of (fun _ _ _ _ _ k => by rw [c_6_3]; exact lv_tableIn (off := 67) (tgt := 73) hx hb dX1_boxOf_6 (by decide) (by decide) rfl (by decide) k) ?_
          refine rk_of (fun _ _ _ _ _ k => lr_aload_n hx hb dX1_boxOf_73 rfl (lv_at hl 0 rfl) k) ?_
          refine rk_get zm_rdR_eq C (hc_X1 H) (k := 0) (Nat.le_of_ble_eq_true rfl) in_X1 q271 (fun _ h => h) dX1_boxOf_74 (fun v74 => ?_)
          refine rk_of (fun _ _ _ _ _ k => lv_iload_n hx hb dX1_boxOf_77 rfl (lv_at hl 1 rfl) k) ?_
          refine rk_callR hX (cl_V (rest := []) (av := [.int a1]) C (hc_X2 H) (ct_X2_spans H v74 a1) (lw_V q1784 q1785 q1786 q102 q1787) ⟨rfl, hd_X2_spans⟩ ⟨(Nat.le_of_ble_eq_true rfl), (Nat.le_of_ble_eq_true rfl)⟩ rfl hl.1 rfl (zw_le zw_nil (Nat.le_of_ble_eq_true rfl)) dX1_boxOf_78) (fun v78 => ?_)
          refine rk_callI hX (cl_V (rest := []) (av := []) C (hc_X9 H) (ct_X9_many H v78) (lw_V q1803 q1804 q1805 q142 q1806) ⟨rfl, hd_X9_many⟩ ⟨(Nat.le_of_ble_eq_true rfl), (Nat.le_of_ble_eq_true rfl)⟩ rfl hl.1 rfl (zw_le zw_nil (Nat.le_of_ble_eq_true rfl)) dX1_boxOf_81) (fun v81 => ?_)
          refine rk_of (fun _ _ _ _ _ k => lv_goto (tgt := 135) hx hb dX1_boxOf_84 (by decide) k) ?_
          exact rk_top (rf_iret C rfl dX1_boxOf_135)
        · refine rk_case (fun c_6_4 => ?_) (fun c_6_4 => ?_)
          · refine rk_of (fun _ _ _ _ _ k => by rw [c_6_4]; exact lv_tableIn (off := 81) (tgt := 87) hx hb dX1_boxOf_6 (by decide) (by decide) rfl (by decide) k) ?_
            refine rk_of (fun _ _ _ _ _ k => lr_aload_n hx hb dX1_boxOf_87 rfl (lv_at hl 0 rfl) k) ?_
            refine rk_get zm_rdR_eq C (hc_X1 H) (k := 0) (Nat.le_of_ble_eq_true rfl) in_X1 q271 (fun _ h => h) dX1_boxOf_88 (fun v88 => ?_)
            refine rk_of (fun _ _ _ _ _ k => lv_iload_n hx hb dX1_boxOf_91 rfl (lv_at hl 1 rfl) k) ?_
            refine rk_callR hX (cl_V (rest := []) (av := [.int a1]) C (hc_X2 H) (ct_X2_gaps H v88 a1) (lw_V q1829 q1830 q1831 q102 q1832) ⟨rfl, hd_X2_gaps⟩ ⟨(Nat.le_of_ble_eq_true rfl), (Nat.le_of_ble_eq_true rfl)⟩ rfl hl.1 rfl (zw_le zw_nil (Nat.le_of_ble_eq_true rfl)) dX1_boxOf_92) (fun v92 => ?_)
            refine rk_callI hX (cl_V (rest := []) (av := []) C (hc_X9 H) (ct_X9_many H v92) (lw_V q1803 q1804 q1805 q142 q1806) ⟨rfl, hd_X9_many⟩ ⟨(Nat.le_of_ble_eq_true rfl), (Nat.le_of_ble_eq_true rfl)⟩ rfl hl.1 rfl (zw_le zw_nil (Nat.le_of_ble_eq_true rfl)) dX1_boxOf_95) (fun v95 => ?_)
            refine rk_of (fun _ _ _ _ _ k => lv_goto (tgt := 135) hx hb dX1_boxOf_98 (by decide) k) ?_
            exact rk_top (rf_iret C rfl dX1_boxOf_135)
          · refine rk_case (fun c_6_5 => ?_) (fun c_6_5 => ?_)
            · refine rk_of (fun _ _ _ _ _ k => by rw [c_6_5]; exact lv_tableIn (off := 95) (tgt := 101) hx hb dX1_boxOf_6 (by decide) (by decide) rfl (by decide) k) ?_
              refine rk_of (fun _ _ _ _ _ k => lr_aload_n hx hb dX1_boxOf_101 rfl (lv_at hl 0 rfl) k) ?_
              refine rk_get zm_rdR_eq C (hc_X1 H) (k := 0) (Nat.le_of_ble_eq_true rfl) in_X1 q271 (fun _ h => h) dX1_boxOf_102 (fun v102 => ?_)
              refine rk_of (fun _ _ _ _ _ k => lv_iload_n hx hb dX1_boxOf_105 rfl (lv_at hl 1 rfl) k) ?_
              refine rk_callR hX (cl_V (rest := []) (av := [.int a1]) C (hc_X2 H) (ct_X2_gaps H v102 a1) (lw_V q1829 q1830 q1831 q102 q1832) ⟨rfl, hd_X2_gaps⟩ ⟨(Nat.le_of_ble_eq_true rfl), (Nat.le_of_ble_eq_true rfl)⟩ rfl hl.1 rfl (zw_le zw_nil (Nat.le_of_ble_eq_true rfl)) dX1_boxOf_106) (fun v106 => ?_)
              refine rk_callI hX (cl_V (rest := []) (av := []) C (hc_X9 H) (ct_X9_longest H v106) (lw_V q1835 q1836 q1837 q142 q1838) ⟨rfl, hd_X9_longest⟩ ⟨(Nat.le_of_ble_eq_true rfl), (Nat.le_of_ble_eq_true rfl)⟩ rfl hl.1 rfl (zw_le zw_nil (Nat.le_of_ble_eq_true rfl)) dX1_boxOf_109) (fun v109 => ?_)
              refine rk_of (fun _ _ _ _ _ k => lv_goto (tgt := 135) hx hb dX1_boxOf_112 (by decide) k) ?_
              exact rk_top (rf_iret C rfl dX1_boxOf_135)
            · refine rk_case (fun c_6_6 => ?_) (fun c_6_6 => ?_)
              · refine rk_of (fun _ _ _ _ _ k => by rw [c_6_6]; exact lv_tableIn (off := 109) (tgt := 115) hx hb dX1_boxOf_6 (by decide) (by decide) rfl (by decide) k) ?_
                refine rk_of (fun _ _ _ _ _ k => lr_aload_n hx hb dX1_boxOf_115 rfl (lv_at hl 0 rfl) k) ?_
                refine rk_get zm_rdR_eq C (hc_X1 H) (k := 0) (Nat.le_of_ble_eq_true rfl) in_X1 q271 (fun _ h => h) dX1_boxOf_116 (fun v116 => ?_)
                refine rk_of (fun _ _ _ _ _ k => lv_iload_n hx hb dX1_boxOf_119 rfl (lv_at hl 1 rfl) (lv_iconst (v := 2) hx hb dX1_boxOf_120 rfl k)) ?_
                refine rk_callI hX (cl_V (rest := []) (av := [.int a1, .int 2]) C (hc_X2 H) (ct_X2_ofBox H v116 a1 2) (lw_V q1783 q1106 q1107 q102 q1108) ⟨rfl, hd_X2_ofBox⟩ ⟨(Nat.le_of_ble_eq_true rfl), (Nat.le_of_ble_eq_true rfl)⟩ rfl hl.1 rfl (zw_le zw_nil (Nat.le_of_ble_eq_true rfl)) dX1_boxOf_121) (fun v121 => ?_)
                refine rk_of (fun _ _ _ _ _ k => lv_goto (tgt := 135) hx hb dX1_boxOf_124 (by decide) k) ?_
                exact rk_top (rf_iret C rfl dX1_boxOf_135)
              · have q_0 : (a2).toInt ≠ 0 := fun q => c_6_0 (zs_eq q rfl)
                have q_1 : (a2).toInt ≠ 1 := fun q => c_6_1 (zs_eq q rfl)
                have q_2 : (a2).toInt ≠ 2 := fun q => c_6_2 (zs_eq q rfl)
                have q_3 : (a2).toInt ≠ 3 := fun q => c_6_3 (zs_eq q rfl)
                have q_4 : (a2).toInt ≠ 4 := fun q => c_6_4 (zs_eq q rfl)
                have q_5 : (a2).toInt ≠ 5 := fun q => c_6_5 (zs_eq q rfl)
                have q_6 : (a2).toInt ≠ 6 := fun q => c_6_6 (zs_eq q rfl)
                refine rk_of (fun _ _ _ _ _ k => lv_tableOut (tgt := 127) hx hb dX1_boxOf_6 (by omega) (by decide) k) ?_
                refine rk_new C (hc_J12 H) in_J12 tyJ12_ok q1138 q596 q116 (fs := [.null, .null, .null, .null, .null, .int 0]) rfl (fun j hj => zdf_J12 j hj) dX1_boxOf_127 (fun v127 => ?_)
                refine rk_of (fun _ _ _ _ _ k => lv_dup hx hb dX1_boxOf_130 (va_rf_cat _) k) ?_
                refine rk_callV hX (cl_I (rest := [va_rf (some v127)]) C (ct_J12_init_2 H (some v127)) (lw_meth q1141) q116 q1139 q1140 rfl hd_J12_init_2 ⟨(Nat.le_of_ble_eq_true rfl), (Nat.le_of_ble_eq_true rfl)⟩ rfl hl.1 rfl (zw_le (zw_R zw_nil) (Nat.le_of_ble_eq_true rfl)) dX1_boxOf_131) (fun _ => ?_)
                exact rk_ath H C hX dX1_boxOf_134
theorem hd_X0_boxOf : yX0_boxOf.cls ≠ "java/lang/invoke/MethodHandle" ∧ yX0_boxOf.cls ≠ "java/lang/invoke/VarHandle" ∧ (parseMethodDescriptor yX0_boxOf.desc).map (fun d => d.parameters.length) = some 4 := by decide +kernel
noncomputable def fn_X0_boxOf (K : zm_K) (a0 : zm_R) (a1 : Int32) (a2 : Int32) (a3 : zm_R) : zm_M Int32 :=
  zm_cth (zm_bnd (zm_is a0 18) fun _ => fn_X1_boxOf K a0 a1 a2) (fun (E5 : String) (q5 : Nat) =>
      if E5 ∈ (["java/lang/IndexOutOfBoundsException", "java/lang/ArrayIndexOutOfBoundsException", "java/lang/StringIndexOutOfBoundsException"] : List String) then
        zm_ret 1
      else
        if E5 ∈ (["java/lang/IllegalArgumentException"] : List String) then
          zm_ret 2
        else
          if E5 ∈ (["java/util/NoSuchElementException", "java/lang/UnsupportedOperationException", "java/lang/IllegalStateException", "java/lang/ArithmeticException", "BoxSpans$Refusal", "BoxSpans$TextError"] : List String) then
            zm_thr E5 q5
          else
            zm_fl
    ) fun v5 =>
  zm_bnd (zm_astJ K a3 0 ((v5).toInt64)) fun _ =>
  zm_ret 0
theorem ct_X0_boxOf {l : Launch} {Ω : zm_W} {K : zm_K} (H : zm_H Ω K) (a0 : zm_R) (a1 : Int32) (a2 : Int32) (a3 : zm_R) : zm_Ct l Ω yX0_boxOf (wsW_ yX0_boxOf cX0_boxOf 5 (Option.some Jvm.ClassFile.FieldType.int) [(0, 10, 13, 21), (0, 10, 17, 13)]) 20 3244 [va_rf a0, .int a1, .int a2, va_rf a3] zm_tvI (fn_X0_boxOf K a0 a1 a2 a3) := by
  refine zm_ctW H.1 (by decide +kernel) (zl_le (zl_R (zl_I (zl_I (zl_R zl_nil)))) (Nat.le_of_ble_eq_true rfl)) ?_
  intro p e R s m args below meth c n0 k0 C hN hT ls hl
  have hx := C.1
  have hb := C.2.1
  simp only [zg_I, zg_R, zg_nil] at hl
  have hl : lv_has ls 5 [(0, va_rf a0), (1, .int a1), (2, .int a2), (3, va_rf a3)] := hl
  refine rk_rf ?_
  unfold fn_X0_boxOf
  refine rk_of (fun _ _ _ _ _ k => lr_aload_n hx hb dX0_boxOf_0 rfl (lv_at hl 3 rfl) (lv_iconst (v := 0) hx hb dX0_boxOf_1 rfl (lr_aload_n hx hb dX0_boxOf_2 rfl (lv_at hl 0 rfl) (lv_iload_n hx hb dX0_boxOf_3 rfl (lv_at hl 1 rfl) (lv_iload_n hx hb dX0_boxOf_4 rfl (lv_at hl 2 rfl) k))))) ?_
  refine rk_cthI (cl_V (rest := [.int 0, va_rf a3]) (av := [.int a1, .int a2]) C (hc_X1 H) (ct_X1_boxOf H a0 a1 a2) (lw_V q1778 q1779 q1780 q101 q1781) ⟨rfl, hd_X1_boxOf⟩ ⟨(Nat.le_of_ble_eq_true rfl), (Nat.le_of_ble_eq_true rfl)⟩ rfl hl.1 rfl (zw_le (zw_I (zw_R zw_nil)) (Nat.le_of_ble_eq_true rfl)) dX0_boxOf_5) (fun E5 q5 => ?_) (fun v5 => ?_)
  · refine rx_ite (fun h5_0 => ?_) (fun h5_0 => ?_)
    · refine rx_cat (k := 0) C hT rfl zp_nil ⟨by decide, by decide⟩ (by decide) q1373 ((zp_cons (P := fun E => (Cond.castable E "java/lang/IndexOutOfBoundsException").before args s = true) (zn_wC H C q360) (zp_cons (P := fun E => (Cond.castable E "java/lang/IndexOutOfBoundsException").before args s = true) (zn_wC H C q3093) (zp_cons (P := fun E => (Cond.castable E "java/lang/IndexOutOfBoundsException").before args s = true) (zn_wC H C q3094) zp_nil))) E5 h5_0) ?_
      refine rk_ofs (fun _ _ _ _ _ k => lr_astore hx hb dX0_boxOf_13 hl (Nat.le_of_ble_eq_true rfl) [] rfl trivial k) (fun ls hl => ?_)
      refine rk_of (fun _ _ _ _ _ k => lv_iconst (v := 1) hx hb dX0_boxOf_15 rfl k) ?_
      exact rk_top (rf_iret C rfl dX0_boxOf_16)
    · refine rx_ite (fun h5_1 => ?_) (fun h5_1 => ?_)
      · refine rx_cat (k := 1) C hT rfl (zp_cons (Or.inr ⟨by decide, _, q1373, zh_ncs H C (L := ["java/lang/IllegalArgumentException"]) (by decide) h5_1⟩) zp_nil) ⟨by decide, by decide⟩ (by decide) q1126 ((zp_cons (P := fun E => (Cond.castable E "java/lang/IllegalArgumentException").before args s = true) (zn_wC H C q597) zp_nil) E5 h5_1) ?_
        refine rk_ofs (fun _ _ _ _ _ k => lr_astore hx hb dX0_boxOf_17 hl (Nat.le_of_ble_eq_true rfl) [] rfl trivial k) (fun ls hl => ?_)
        refine rk_of (fun _ _ _ _ _ k => lv_iconst (v := 2) hx hb dX0_boxOf_19 rfl k) ?_
        exact rk_top (rf_iret C rfl dX0_boxOf_20)
      · refine rx_ite (fun h5_x => ?_) (fun _ => rx_fl)
        exact rx_out C hT (zp_cons (Or.inr ⟨by decide, _, q1373, zh_ncs H C (L := ["java/util/NoSuchElementException", "java/lang/UnsupportedOperationException", "java/lang/IllegalStateException", "java/lang/ArithmeticException", "BoxSpans$Refusal", "BoxSpans$TextError"]) (by decide) h5_x⟩) (zp_cons (Or.inr ⟨by decide, _, q1126, zh_ncs H C (L := ["java/util/NoSuchElementException", "java/lang/UnsupportedOperationException", "java/lang/IllegalStateException", "java/lang/ArithmeticException", "BoxSpans$Refusal", "BoxSpans$TextError"]) (by decide) h5_x⟩) zp_nil))
  refine rk_of (fun _ _ _ _ _ k => lv_i2l hx hb dX0_boxOf_8 rfl k) ?_
  refine rk_last C H.2.2.1 dX0_boxOf_9 ?_
  refine rk_of (fun _ _ _ _ _ k => lv_goto (tgt := 21) hx hb dX0_boxOf_10 (by decide) (lv_iconst (v := 0) hx hb dX0_boxOf_21 rfl k)) ?_
  exact rk_top (rf_iret C rfl dX0_boxOf_22)
theorem hd_X9_at : yX9_at.cls ≠ "java/lang/invoke/MethodHandle" ∧ yX9_at.cls ≠ "java/lang/invoke/VarHandle" ∧ (parseMethodDescriptor yX9_at.desc).map (fun d => d.parameters.length) = some 1 := by decide +kernel
noncomputable def fn_X9_at_7 (K : zm_K) (p1 : Int32) (p3 : zm_R) : Nat → Int32 → zm_M ((Unit) ⊕ (zm_R))
  | 0, _ => zm_fl
  | n + 1, x2 =>
    zm_bnd (zm_bnd (zm_cls p3) fun ci => if ci = 26 then fn_X10_hasNext K p3 else if ci = 9 then fn_J22_hasNext K p3 else if ci = 11 then fn_J25_hasNext K p3 else zm_fl) fun v8 =>
    if v8 = 0 then
      zm_ret (Sum.inl ())
    else
      zm_bnd (zm_bnd (zm_cls p3) fun ci => if ci = 26 then fn_X10_next K p3 else if ci = 9 then fn_J22_next K p3 else if ci = 11 then fn_J25_next K p3 else zm_fl) fun v17 =>
      zm_bnd (zm_chk [22] [] v17) fun _ =>
      if x2 = p1 then
        zm_ret (Sum.inr v17)
      else
        fn_X9_at_7 K p1 p3 n (x2 + 1)
noncomputable def fn_X9_at (K : zm_K) (a0 : zm_R) (a1 : Int32) : zm_M zm_R :=
  zm_bnd (zm_bnd (zm_is a0 25) fun _ => fn_X9_iterator K a0) fun v3 =>
  zm_bnx (β := Unit) (fn_X9_at_7 K a1 v3 zm_N 0) fun (_ : Unit) =>
  zm_ret none
theorem rf_X9_at_7 (H : zm_H Ω K) (C : zm_C p l R s m args meth c Ω lw_all cX9_at yX9_at.cls yX9_at.name 5 17 415 (Option.some (Jvm.ClassFile.FieldType.object "BoxSpans$Span"))) (hX : zm_XO p l e R s m args below meth c Ω n0 k0 (zm_QFs below args s Ω n0 k0 zm_tvR)) (p1 : Int32) (p3 : zm_R) : ∀ (n : Nat) (x2 : Int32) (J : ((Unit) ⊕ (zm_R)) → zm_M zm_R) (ls : Array Slot), lv_has ls 5 [(1, .int p1), (3, va_rf p3), (2, .int x2)] → (∀ (b : Unit) (ls : Array Slot), lv_has ls 5 [] → zm_RK p l e R s m args below meth c Ω n0 k0 (zm_QFs below args s Ω n0 k0 zm_tvR) (zm_ret (Sum.inl b)) J (F0 m 41 ls [])) → (∀ (v : zm_R) (g : JFrame), zm_RF p l e R s m args below meth c Ω n0 k0 (zm_QFs below args s Ω n0 k0 zm_tvR) (zm_ret v) g → zm_RK p l e R s m args below meth c Ω n0 k0 (zm_QFs below args s Ω n0 k0 zm_tvR) (zm_ret (Sum.inr v)) J g) → zm_RK p l e R s m args below meth c Ω n0 k0 (zm_QFs below args s Ω n0 k0 zm_tvR) (fn_X9_at_7 K p1 p3 n x2) J (F0 m 7 ls []) := by
  have hx := C.1
  have hb := C.2.1
  intro n
  induction n with
  | zero => intro x2 J ls hl hJ hR; exact rk_fl
  | succ n ih =>
    intro x2 J ls hl hJ hR
    unfold fn_X9_at_7
    refine rk_of (fun _ _ _ _ _ k => lr_aload_n hx hb dX9_at_7 rfl (lv_at hl 1 rfl) k) ?_
    refine rk_callI hX (cl_dsp (fun ci => cl_case (cl_F (n := 0) (rest := []) (av := []) C (hc_X10 H) (ct_X10_hasNext H p3) (lw_F q1825 q737 q739 q143 q741) (zh_Fw H C (by decide) q735 q734 q740 q738 q736) (by decide +kernel) ⟨(Nat.le_of_ble_eq_true rfl), (Nat.le_of_ble_eq_true rfl)⟩ rfl hl.1 rfl (zw_le zw_nil (Nat.le_of_ble_eq_true rfl)) dX9_at_8) (cl_case (cl_F (n := 0) (rest := []) (av := []) C (hc_J22 H) (ct_J22_hasNext H p3) (lw_F q1825 q758 q760 q129 q762) (zh_Fw H C (by decide) q735 q734 q761 q759 q757) (by decide +kernel) ⟨(Nat.le_of_ble_eq_true rfl), (Nat.le_of_ble_eq_true rfl)⟩ rfl hl.1 rfl (zw_le zw_nil (Nat.le_of_ble_eq_true rfl)) dX9_at_8) (cl_case (cl_F (n := 0) (rest := []) (av := []) C (hc_J25 H) (ct_J25_hasNext H p3) (lw_F q1825 q767 q769 q133 q771) (zh_Fw H C (by decide) q735 q734 q770 q768 q766) (by decide +kernel) ⟨(Nat.le_of_ble_eq_true rfl), (Nat.le_of_ble_eq_true rfl)⟩ rfl hl.1 rfl (zw_le zw_nil (Nat.le_of_ble_eq_true rfl)) dX9_at_8) (cl_fl))))) (fun v8 => ?_)
    refine rk_ite (fun _ _ _ _ _ k1 k2 => lv_if_eq (tgt := 41) hx hb dX9_at_13 (by decide) k1 k2) (fun c_13 => ?_) (fun c_13 => ?_)
    · exact hJ () ls (lv_sub hl [] rfl)
    · refine rk_of (fun _ _ _ _ _ k => lr_aload_n hx hb dX9_at_16 rfl (lv_at hl 1 rfl) k) ?_
      refine rk_callR hX (cl_dsp (fun ci => cl_case (cl_F (n := 0) (rest := []) (av := []) C (hc_X10 H) (ct_X10_next H p3) (lw_F q1827 q776 q778 q143 q780) (zh_Fw H C (by decide) q775 q774 q779 q777 q736) (by decide +kernel) ⟨(Nat.le_of_ble_eq_true rfl), (Nat.le_of_ble_eq_true rfl)⟩ rfl hl.1 rfl (zw_le zw_nil (Nat.le_of_ble_eq_true rfl)) dX9_at_17) (cl_case (cl_F (n := 0) (rest := []) (av := []) C (hc_J22 H) (ct_J22_next H p3) (lw_F q1827 q966 q968 q129 q970) (zh_Fw H C (by decide) q775 q774 q969 q967 q757) (by decide +kernel) ⟨(Nat.le_of_ble_eq_true rfl), (Nat.le_of_ble_eq_true rfl)⟩ rfl hl.1 rfl (zw_le zw_nil (Nat.le_of_ble_eq_true rfl)) dX9_at_17) (cl_case (cl_F (n := 0) (rest := []) (av := []) C (hc_J25 H) (ct_J25_next H p3) (lw_F q1827 q981 q983 q133 q985) (zh_Fw H C (by decide) q775 q774 q984 q982 q766) (by decide +kernel) ⟨(Nat.le_of_ble_eq_true rfl), (Nat.le_of_ble_eq_true rfl)⟩ rfl hl.1 rfl (zw_le zw_nil (Nat.le_of_ble_eq_true rfl)) dX9_at_17) (cl_fl))))) (fun v17 => ?_)
      refine rk_chk C q1828 (zc_cons (zc_s (hc_X5 H)) zc_nil) zp_nil dX9_at_22 ?_
      refine rk_ofs (fun _ _ _ _ _ k => lr_astore hx hb dX9_at_25 hl (Nat.le_of_ble_eq_true rfl) [0, 1, 2] rfl ⟨trivial, ⟨(by first | exact va_rf_cat _ | rfl), ⟨trivial, trivial⟩⟩⟩ k) (fun ls hl => ?_)
      refine rk_ite (fun _ _ _ _ _ k1 k2 => lv_iload_n hx hb dX9_at_27 rfl (lv_at hl 3 rfl) (lv_iload_n hx hb dX9_at_28 rfl (lv_at hl 1 rfl) (lv_icmp_ne (tgt := 35) hx hb dX9_at_29 (by decide) k2 k1))) (fun c_29 => ?_) (fun c_29 => ?_)
      · refine rk_of (fun _ _ _ _ _ k => lr_aload hx hb dX9_at_32 (lv_at hl 0 rfl) k) ?_
        exact hR _ _ (rf_aret C (Or.inl ⟨_, rfl⟩) dX9_at_34)
      · refine rk_ofs (fun _ _ _ _ _ k => lr_iinc (v := x2 + 1) hx hb dX9_at_35 hl (k := 3) rfl rfl (Nat.le_of_ble_eq_true rfl) [1, 2] rfl ⟨rfl, ⟨trivial, trivial⟩⟩ k) (fun ls hl => ?_)
        refine rk_of (fun _ _ _ _ _ k => lv_goto (tgt := 7) hx hb dX9_at_38 (by decide) k) ?_
        exact ih (x2 + 1) J ls (lv_sub hl [1, 2, 0] rfl) hJ hR
theorem ct_X9_at {l : Launch} {Ω : zm_W} {K : zm_K} (H : zm_H Ω K) (a0 : zm_R) (a1 : Int32) : zm_Ct l Ω yX9_at (ws_ yX9_at cX9_at 5 (Option.some (Jvm.ClassFile.FieldType.object "BoxSpans$Span"))) 17 415 [va_rf a0, .int a1] zm_tvR (fn_X9_at K a0 a1) := by
  refine zm_ct H.1 (by decide +kernel) (zl_le (zl_R (zl_I zl_nil)) (Nat.le_of_ble_eq_true rfl)) ?_
  intro p e R s m args below meth c n0 k0 C hX ls hl
  have hx := C.1
  have hb := C.2.1
  simp only [zg_I, zg_R, zg_nil] at hl
  have hl : lv_has ls 5 [(0, va_rf a0), (1, .int a1)] := hl
  refine rk_rf ?_
  unfold fn_X9_at
  refine rk_ofs (fun _ _ _ _ _ k => lv_iconst (v := 0) hx hb dX9_at_0 rfl (lr_istore_n hx hb dX9_at_1 rfl hl (Nat.le_of_ble_eq_true rfl) [0, 1] rfl ⟨trivial, ⟨rfl, trivial⟩⟩ k)) (fun ls hl => ?_)
  refine rk_of (fun _ _ _ _ _ k => lr_aload_n hx hb dX9_at_2 rfl (lv_at hl 1 rfl) k) ?_
  refine rk_callR hX (cl_V (rest := []) (av := []) C (hc_X9 H) (ct_X9_iterator H a0) (lw_V q1807 q1808 q1809 q142 q1810) ⟨rfl, hd_X9_iterator⟩ ⟨(Nat.le_of_ble_eq_true rfl), (Nat.le_of_ble_eq_true rfl)⟩ rfl hl.1 rfl (zw_le zw_nil (Nat.le_of_ble_eq_true rfl)) dX9_at_3) (fun v3 => ?_)
  refine rk_ofs (fun _ _ _ _ _ k => lr_astore_n hx hb dX9_at_6 rfl hl (Nat.le_of_ble_eq_true rfl) [0, 2] rfl ⟨rfl, ⟨trivial, trivial⟩⟩ k) (fun ls hl => ?_)
  refine rk_joinx (β := Unit) (fun (b41 : Unit) ls => lv_has ls 5 []) (fun (b41 : Unit) ls => F0 m 41 ls []) (fun b41 ls hl => ?_) (fun hJ41 => ?_)
  · refine rk_of (fun _ _ _ _ _ k => lr_null hx hb dX9_at_41 k) ?_
    exact rk_top (rf_aret C (Or.inl ⟨_, rfl⟩) dX9_at_42)
  · exact rf_X9_at_7 H C hX a1 v3 zm_N 0 _ ls (lv_sub hl [2, 0, 1] rfl) hJ41 (fun v g k9 => by
        refine rk_inr ?_
        exact rk_top (k9))
theorem hd_X5_end : yX5_end.cls ≠ "java/lang/invoke/MethodHandle" ∧ yX5_end.cls ≠ "java/lang/invoke/VarHandle" ∧ (parseMethodDescriptor yX5_end.desc).map (fun d => d.parameters.length) = some 1 := by decide +kernel
noncomputable def fn_X5_end (K : zm_K) (a0 : zm_R) (a1 : Int32) : zm_M Int32 :=
  if a1 = 0 then
    zm_bnd (zm_getI a0 22 0) fun v12 =>
    zm_ret v12
  else
    zm_bnd (zm_getI a0 22 1) fun v5 =>
    zm_ret v5
theorem ct_X5_end {l : Launch} {Ω : zm_W} {K : zm_K} (H : zm_H Ω K) (a0 : zm_R) (a1 : Int32) : zm_Ct l Ω yX5_end (ws_ yX5_end cX5_end 2 (Option.some Jvm.ClassFile.FieldType.int)) 1 64 [va_rf a0, .int a1] zm_tvI (fn_X5_end K a0 a1) := by
  refine zm_ct H.1 (by decide +kernel) (zl_le (zl_R (zl_I zl_nil)) (Nat.le_of_ble_eq_true rfl)) ?_
  intro p e R s m args below meth c n0 k0 C hX ls hl
  have hx := C.1
  have hb := C.2.1
  simp only [zg_I, zg_R, zg_nil] at hl
  have hl : lv_has ls 2 [(0, va_rf a0), (1, .int a1)] := hl
  refine rk_rf ?_
  unfold fn_X5_end
  refine rk_ite (fun _ _ _ _ _ k1 k2 => lv_iload_n hx hb dX5_end_0 rfl (lv_at hl 1 rfl) (lv_if_eq (tgt := 11) hx hb dX5_end_1 (by decide) k1 k2)) (fun c_1 => ?_) (fun c_1 => ?_)
  · refine rk_of (fun _ _ _ _ _ k => lr_aload_n hx hb dX5_end_11 rfl (lv_at hl 0 rfl) k) ?_
    refine rk_get zm_rdI_eq C (hc_X5 H) (k := 0) (Nat.le_of_ble_eq_true rfl) in_X5 q822 (fun _ h => h) dX5_end_12 (fun v12 => ?_)
    exact rk_top (rf_iret C rfl dX5_end_15)
  · refine rk_of (fun _ _ _ _ _ k => lr_aload_n hx hb dX5_end_4 rfl (lv_at hl 0 rfl) k) ?_
    refine rk_get zm_rdI_eq C (hc_X5 H) (k := 1) (Nat.le_of_ble_eq_true rfl) in_X5 q823 (fun _ h => h) dX5_end_5 (fun v5 => ?_)
    refine rk_of (fun _ _ _ _ _ k => lv_goto (tgt := 15) hx hb dX5_end_8 (by decide) k) ?_
    exact rk_top (rf_iret C rfl dX5_end_15)
theorem hd_X1_endOf : yX1_endOf.cls ≠ "java/lang/invoke/MethodHandle" ∧ yX1_endOf.cls ≠ "java/lang/invoke/VarHandle" ∧ (parseMethodDescriptor yX1_endOf.desc).map (fun d => d.parameters.length) = some 3 := by decide +kernel
noncomputable def fn_X1_endOf (K : zm_K) (a0 : zm_R) (a1 : Int32) (a2 : Int32) : zm_M Int32 :=
  zm_bnd (zm_bnd (zm_is a0 25) fun _ => fn_X9_at K a0 a1) fun v2 =>
  zm_bnd (α := Int32) (
      if v2 = none then
        zm_ret 0
      else
        zm_ret 1
    ) fun b15 =>
  zm_bnd (fn_X1_requireElement K b15) fun _ =>
  zm_bnd (zm_bnd (zm_is v2 22) fun _ => fn_X5_end K v2 a2) fun v20 =>
  zm_ret v20
theorem ct_X1_endOf {l : Launch} {Ω : zm_W} {K : zm_K} (H : zm_H Ω K) (a0 : zm_R) (a1 : Int32) (a2 : Int32) : zm_Ct l Ω yX1_endOf (ws_ yX1_endOf cX1_endOf 4 (Option.some Jvm.ClassFile.FieldType.int)) 18 439 [va_rf a0, .int a1, .int a2] zm_tvI (fn_X1_endOf K a0 a1 a2) := by
  refine zm_ct H.1 (by decide +kernel) (zl_le (zl_R (zl_I (zl_I zl_nil))) (Nat.le_of_ble_eq_true rfl)) ?_
  intro p e R s m args below meth c n0 k0 C hX ls hl
  have hx := C.1
  have hb := C.2.1
  simp only [zg_I, zg_R, zg_nil] at hl
  have hl : lv_has ls 4 [(0, va_rf a0), (1, .int a1), (2, .int a2)] := hl
  refine rk_rf ?_
  unfold fn_X1_endOf
  refine rk_of (fun _ _ _ _ _ k => lr_aload_n hx hb dX1_endOf_0 rfl (lv_at hl 0 rfl) (lv_iload_n hx hb dX1_endOf_1 rfl (lv_at hl 1 rfl) k)) ?_
  refine rk_callR hX (cl_V (rest := []) (av := [.int a1]) C (hc_X9 H) (ct_X9_at H a0 a1) (lw_V q1850 q1851 q1852 q142 q1853) ⟨rfl, hd_X9_at⟩ ⟨(Nat.le_of_ble_eq_true rfl), (Nat.le_of_ble_eq_true rfl)⟩ rfl hl.1 rfl (zw_le zw_nil (Nat.le_of_ble_eq_true rfl)) dX1_endOf_2) (fun v2 => ?_)
  refine rk_ofs (fun _ _ _ _ _ k => lr_astore_n hx hb dX1_endOf_5 rfl hl (Nat.le_of_ble_eq_true rfl) [2] rfl ⟨rfl, trivial⟩ k) (fun ls hl => ?_)
  refine rk_of (fun _ _ _ _ _ k => lr_aload_n hx hb dX1_endOf_6 rfl (lv_at hl 0 rfl) k) ?_
  refine rk_join (β := Int32) (fun (b15 : Int32) ls => lv_has ls 4 [(2, .int a2), (3, va_rf v2)]) (fun (b15 : Int32) ls => F0 m 15 ls [.int b15]) (fun b15 ls hl => ?_) (fun hJ15 => ?_)
  · refine rk_callV hX (cl_S (rest := []) C (ct_X1_requireElement H b15) (lw_S q1717 q1718 q101 q1719) hd_X1_requireElement ⟨(Nat.le_of_ble_eq_true rfl), (Nat.le_of_ble_eq_true rfl)⟩ rfl hl.1 rfl (zw_le zw_nil (Nat.le_of_ble_eq_true rfl)) dX1_endOf_15) (fun _ => ?_)
    refine rk_of (fun _ _ _ _ _ k => lr_aload_n hx hb dX1_endOf_18 rfl (lv_at hl 1 rfl) (lv_iload_n hx hb dX1_endOf_19 rfl (lv_at hl 0 rfl) k)) ?_
    refine rk_callI hX (cl_V (rest := []) (av := [.int a2]) C (hc_X5 H) (ct_X5_end H v2 a2) (lw_V q1854 q1855 q1856 q135 q1857) ⟨rfl, hd_X5_end⟩ ⟨(Nat.le_of_ble_eq_true rfl), (Nat.le_of_ble_eq_true rfl)⟩ rfl hl.1 rfl (zw_le zw_nil (Nat.le_of_ble_eq_true rfl)) dX1_endOf_20) (fun v20 => ?_)
    exact rk_top (rf_iret C rfl dX1_endOf_23)
  · refine rk_ite (fun _ _ _ _ _ k1 k2 => lr_ifnull (tgt := 14) hx hb dX1_endOf_7 (by decide) k1 k2) (fun c_7 => ?_) (fun c_7 => ?_)
    · refine rk_of (fun _ _ _ _ _ k => lv_iconst (v := 0) hx hb dX1_endOf_14 rfl k) ?_
      exact hJ15 0 ls (lv_sub hl [1, 0] rfl)
    · refine rk_of (fun _ _ _ _ _ k => lv_iconst (v := 1) hx hb dX1_endOf_10 rfl (lv_goto (tgt := 15) hx hb dX1_endOf_11 (by decide) k)) ?_
      exact hJ15 1 ls (lv_sub hl [1, 0] rfl)
theorem hd_X1_span : yX1_span.cls ≠ "java/lang/invoke/MethodHandle" ∧ yX1_span.cls ≠ "java/lang/invoke/VarHandle" ∧ (parseMethodDescriptor yX1_span.desc).map (fun d => d.parameters.length) = some 3 := by decide +kernel
noncomputable def fn_X1_span (K : zm_K) (a0 : zm_R) (a1 : Int32) (a2 : Int32) (a3 : Int32) : zm_M Int32 :=
  zm_bnd (zm_bnd (zm_is a0 18) fun _ => fn_X1_requireBox K a0 a1) fun _ =>
  zm_bnd (zm_getR a0 18 0) fun v6 =>
  zm_bnd (zm_bnd (zm_is v6 19) fun _ => fn_X2_spans K v6 a1) fun v10 =>
  zm_bnd (fn_X1_endOf K v10 a2 a3) fun v15 =>
  zm_ret v15
theorem ct_X1_span {l : Launch} {Ω : zm_W} {K : zm_K} (H : zm_H Ω K) (a0 : zm_R) (a1 : Int32) (a2 : Int32) (a3 : Int32) : zm_Ct l Ω yX1_span (ws_ yX1_span cX1_span 4 (Option.some Jvm.ClassFile.FieldType.int)) 19 3222 [va_rf a0, .int a1, .int a2, .int a3] zm_tvI (fn_X1_span K a0 a1 a2 a3) := by
  refine zm_ct H.1 (by decide +kernel) (zl_le (zl_R (zl_I (zl_I (zl_I zl_nil)))) (Nat.le_of_ble_eq_true rfl)) ?_
  intro p e R s m args below meth c n0 k0 C hX ls hl
  have hx := C.1
  have hb := C.2.1
  simp only [zg_I, zg_R, zg_nil] at hl
  have hl : lv_has ls 4 [(0, va_rf a0), (1, .int a1), (2, .int a2), (3, .int a3)] := hl
  refine rk_rf ?_
  unfold fn_X1_span
  refine rk_of (fun _ _ _ _ _ k => lr_aload_n hx hb dX1_span_0 rfl (lv_at hl 0 rfl) (lv_iload_n hx hb dX1_span_1 rfl (lv_at hl 1 rfl) k)) ?_
  refine rk_callV hX (cl_V (rest := []) (av := [.int a1]) C (hc_X1 H) (ct_X1_requireBox H a0 a1) (lw_V q1393 q1395 qs15 q101 q1396) ⟨rfl, hd_X1_requireBox⟩ ⟨(Nat.le_of_ble_eq_true rfl), (Nat.le_of_ble_eq_true rfl)⟩ rfl hl.1 rfl (zw_le zw_nil (Nat.le_of_ble_eq_true rfl)) dX1_span_2) (fun _ => ?_)
  refine rk_of (fun _ _ _ _ _ k => lr_aload_n hx hb dX1_span_5 rfl (lv_at hl 0 rfl) k) ?_
  refine rk_get zm_rdR_eq C (hc_X1 H) (k := 0) (Nat.le_of_ble_eq_true rfl) in_X1 q271 (fun _ h => h) dX1_span_6 (fun v6 => ?_)
  refine rk_of (fun _ _ _ _ _ k => lv_iload_n hx hb dX1_span_9 rfl (lv_at hl 1 rfl) k) ?_
  refine rk_callR hX (cl_V (rest := []) (av := [.int a1]) C (hc_X2 H) (ct_X2_spans H v6 a1) (lw_V q1784 q1785 q1786 q102 q1787) ⟨rfl, hd_X2_spans⟩ ⟨(Nat.le_of_ble_eq_true rfl), (Nat.le_of_ble_eq_true rfl)⟩ rfl hl.1 rfl (zw_le zw_nil (Nat.le_of_ble_eq_true rfl)) dX1_span_10) (fun v10 => ?_)
  refine rk_of (fun _ _ _ _ _ k => lv_iload_n hx hb dX1_span_13 rfl (lv_at hl 2 rfl) (lv_iload_n hx hb dX1_span_14 rfl (lv_at hl 3 rfl) k)) ?_
  refine rk_callI hX (cl_S (rest := []) C (ct_X1_endOf H v10 a2 a3) (lw_S q1847 q1848 q101 q1849) hd_X1_endOf ⟨(Nat.le_of_ble_eq_true rfl), (Nat.le_of_ble_eq_true rfl)⟩ rfl hl.1 rfl (zw_le zw_nil (Nat.le_of_ble_eq_true rfl)) dX1_span_15) (fun v15 => ?_)
  exact rk_top (rf_iret C rfl dX1_span_18)
theorem hd_X0_span : yX0_span.cls ≠ "java/lang/invoke/MethodHandle" ∧ yX0_span.cls ≠ "java/lang/invoke/VarHandle" ∧ (parseMethodDescriptor yX0_span.desc).map (fun d => d.parameters.length) = some 5 := by decide +kernel
noncomputable def fn_X0_span (K : zm_K) (a0 : zm_R) (a1 : Int32) (a2 : Int32) (a3 : Int32) (a4 : zm_R) : zm_M Int32 :=
  zm_cth (zm_bnd (zm_is a0 18) fun _ => fn_X1_span K a0 a1 a2 a3) (fun (E7 : String) (q7 : Nat) =>
      if E7 ∈ (["java/lang/IndexOutOfBoundsException", "java/lang/ArrayIndexOutOfBoundsException", "java/lang/StringIndexOutOfBoundsException"] : List String) then
        zm_ret 1
      else
        if E7 ∈ (["java/util/NoSuchElementException"] : List String) then
          zm_ret 2
        else
          if E7 ∈ (["java/lang/IllegalArgumentException", "java/lang/UnsupportedOperationException", "java/lang/IllegalStateException", "java/lang/ArithmeticException", "BoxSpans$Refusal", "BoxSpans$TextError"] : List String) then
            zm_thr E7 q7
          else
            zm_fl
    ) fun v7 =>
  zm_bnd (zm_astJ K a4 0 ((v7).toInt64)) fun _ =>
  zm_ret 0
theorem ct_X0_span {l : Launch} {Ω : zm_W} {K : zm_K} (H : zm_H Ω K) (a0 : zm_R) (a1 : Int32) (a2 : Int32) (a3 : Int32) (a4 : zm_R) : zm_Ct l Ω yX0_span (wsW_ yX0_span cX0_span 6 (Option.some Jvm.ClassFile.FieldType.int) [(0, 12, 15, 21), (0, 12, 19, 62)]) 20 3245 [va_rf a0, .int a1, .int a2, .int a3, va_rf a4] zm_tvI (fn_X0_span K a0 a1 a2 a3 a4) := by
  refine zm_ctW H.1 (by decide +kernel) (zl_le (zl_R (zl_I (zl_I (zl_I (zl_R zl_nil))))) (Nat.le_of_ble_eq_true rfl)) ?_
  intro p e R s m args below meth c n0 k0 C hN hT ls hl
  have hx := C.1
  have hb := C.2.1
  simp only [zg_I, zg_R, zg_nil] at hl
  have hl : lv_has ls 6 [(0, va_rf a0), (1, .int a1), (2, .int a2), (3, .int a3), (4, va_rf a4)] := hl
  refine rk_rf ?_
  unfold fn_X0_span
  refine rk_of (fun _ _ _ _ _ k => lr_aload hx hb dX0_span_0 (lv_at hl 4 rfl) (lv_iconst (v := 0) hx hb dX0_span_2 rfl (lr_aload_n hx hb dX0_span_3 rfl (lv_at hl 0 rfl) (lv_iload_n hx hb dX0_span_4 rfl (lv_at hl 1 rfl) (lv_iload_n hx hb dX0_span_5 rfl (lv_at hl 2 rfl) (lv_iload_n hx hb dX0_span_6 rfl (lv_at hl 3 rfl) k)))))) ?_
  refine rk_cthI (cl_V (rest := [.int 0, va_rf a4]) (av := [.int a1, .int a2, .int a3]) C (hc_X1 H) (ct_X1_span H a0 a1 a2 a3) (lw_V q1843 q1844 q1845 q101 q1846) ⟨rfl, hd_X1_span⟩ ⟨(Nat.le_of_ble_eq_true rfl), (Nat.le_of_ble_eq_true rfl)⟩ rfl hl.1 rfl (zw_le (zw_I (zw_R zw_nil)) (Nat.le_of_ble_eq_true rfl)) dX0_span_7) (fun E7 q7 => ?_) (fun v7 => ?_)
  · refine rx_ite (fun h7_0 => ?_) (fun h7_0 => ?_)
    · refine rx_cat (k := 0) C hT rfl zp_nil ⟨by decide, by decide⟩ (by decide) q1373 ((zp_cons (P := fun E => (Cond.castable E "java/lang/IndexOutOfBoundsException").before args s = true) (zn_wC H C q360) (zp_cons (P := fun E => (Cond.castable E "java/lang/IndexOutOfBoundsException").before args s = true) (zn_wC H C q3093) (zp_cons (P := fun E => (Cond.castable E "java/lang/IndexOutOfBoundsException").before args s = true) (zn_wC H C q3094) zp_nil))) E7 h7_0) ?_
      refine rk_ofs (fun _ _ _ _ _ k => lr_astore hx hb dX0_span_15 hl (Nat.le_of_ble_eq_true rfl) [] rfl trivial k) (fun ls hl => ?_)
      refine rk_of (fun _ _ _ _ _ k => lv_iconst (v := 1) hx hb dX0_span_17 rfl k) ?_
      exact rk_top (rf_iret C rfl dX0_span_18)
    · refine rx_ite (fun h7_1 => ?_) (fun h7_1 => ?_)
      · refine rx_cat (k := 1) C hT rfl (zp_cons (Or.inr ⟨by decide, _, q1373, zh_ncs H C (L := ["java/util/NoSuchElementException"]) (by decide) h7_1⟩) zp_nil) ⟨by decide, by decide⟩ (by decide) q1697 ((zp_cons (P := fun E => (Cond.castable E "java/util/NoSuchElementException").before args s = true) (zn_wC H C q788) zp_nil) E7 h7_1) ?_
        refine rk_ofs (fun _ _ _ _ _ k => lr_astore hx hb dX0_span_19 hl (Nat.le_of_ble_eq_true rfl) [] rfl trivial k) (fun ls hl => ?_)
        refine rk_of (fun _ _ _ _ _ k => lv_iconst (v := 2) hx hb dX0_span_21 rfl k) ?_
        exact rk_top (rf_iret C rfl dX0_span_22)
      · refine rx_ite (fun h7_x => ?_) (fun _ => rx_fl)
        exact rx_out C hT (zp_cons (Or.inr ⟨by decide, _, q1373, zh_ncs H C (L := ["java/lang/IllegalArgumentException", "java/lang/UnsupportedOperationException", "java/lang/IllegalStateException", "java/lang/ArithmeticException", "BoxSpans$Refusal", "BoxSpans$TextError"]) (by decide) h7_x⟩) (zp_cons (Or.inr ⟨by decide, _, q1697, zh_ncs H C (L := ["java/lang/IllegalArgumentException", "java/lang/UnsupportedOperationException", "java/lang/IllegalStateException", "java/lang/ArithmeticException", "BoxSpans$Refusal", "BoxSpans$TextError"]) (by decide) h7_x⟩) zp_nil))
  refine rk_of (fun _ _ _ _ _ k => lv_i2l hx hb dX0_span_10 rfl k) ?_
  refine rk_last C H.2.2.1 dX0_span_11 ?_
  refine rk_of (fun _ _ _ _ _ k => lv_goto (tgt := 23) hx hb dX0_span_12 (by decide) (lv_iconst (v := 0) hx hb dX0_span_23 rfl k)) ?_
  exact rk_top (rf_iret C rfl dX0_span_24)
theorem hd_X1_gap : yX1_gap.cls ≠ "java/lang/invoke/MethodHandle" ∧ yX1_gap.cls ≠ "java/lang/invoke/VarHandle" ∧ (parseMethodDescriptor yX1_gap.desc).map (fun d => d.parameters.length) = some 3 := by decide +kernel
noncomputable def fn_X1_gap (K : zm_K) (a0 : zm_R) (a1 : Int32) (a2 : Int32) (a3 : Int32) : zm_M Int32 :=
  zm_bnd (zm_bnd (zm_is a0 18) fun _ => fn_X1_requireBox K a0 a1) fun _ =>
  zm_bnd (zm_getR a0 18 0) fun v6 =>
  zm_bnd (zm_bnd (zm_is v6 19) fun _ => fn_X2_gaps K v6 a1) fun v10 =>
  zm_bnd (fn_X1_endOf K v10 a2 a3) fun v15 =>
  zm_ret v15
theorem ct_X1_gap {l : Launch} {Ω : zm_W} {K : zm_K} (H : zm_H Ω K) (a0 : zm_R) (a1 : Int32) (a2 : Int32) (a3 : Int32) : zm_Ct l Ω yX1_gap (ws_ yX1_gap cX1_gap 4 (Option.some Jvm.ClassFile.FieldType.int)) 19 3222 [va_rf a0, .int a1, .int a2, .int a3] zm_tvI (fn_X1_gap K a0 a1 a2 a3) := by
  refine zm_ct H.1 (by decide +kernel) (zl_le (zl_R (zl_I (zl_I (zl_I zl_nil)))) (Nat.le_of_ble_eq_true rfl)) ?_
  intro p e R s m args below meth c n0 k0 C hX ls hl
  have hx := C.1
  have hb := C.2.1
  simp only [zg_I, zg_R, zg_nil] at hl
  have hl : lv_has ls 4 [(0, va_rf a0), (1, .int a1), (2, .int a2), (3, .int a3)] := hl
  refine rk_rf ?_
  unfold fn_X1_gap
  refine rk_of (fun _ _ _ _ _ k => lr_aload_n hx hb dX1_gap_0 rfl (lv_at hl 0 rfl) (lv_iload_n hx hb dX1_gap_1 rfl (lv_at hl 1 rfl) k)) ?_
  refine rk_callV hX (cl_V (rest := []) (av := [.int a1]) C (hc_X1 H) (ct_X1_requireBox H a0 a1) (lw_V q1393 q1395 qs15 q101 q1396) ⟨rfl, hd_X1_requireBox⟩ ⟨(Nat.le_of_ble_eq_true rfl), (Nat.le_of_ble_eq_true rfl)⟩ rfl hl.1 rfl (zw_le zw_nil (Nat.le_of_ble_eq_true rfl)) dX1_gap_2) (fun _ => ?_)
  refine rk_of (fun _ _ _ _ _ k => lr_aload_n hx hb dX1_gap_5 rfl (lv_at hl 0 rfl) k) ?_
  refine rk_get zm_rdR_eq C (hc_X1 H) (k := 0) (Nat.le_of_ble_eq_true rfl) in_X1 q271 (fun _ h => h) dX1_gap_6 (fun v6 => ?_)
  refine rk_of (fun _ _ _ _ _ k => lv_iload_n hx hb dX1_gap_9 rfl (lv_at hl 1 rfl) k) ?_
  refine rk_callR hX (cl_V (rest := []) (av := [.int a1]) C (hc_X2 H) (ct_X2_gaps H v6 a1) (lw_V q1829 q1830 q1831 q102 q1832) ⟨rfl, hd_X2_gaps⟩ ⟨(Nat.le_of_ble_eq_true rfl), (Nat.le_of_ble_eq_true rfl)⟩ rfl hl.1 rfl (zw_le zw_nil (Nat.le_of_ble_eq_true rfl)) dX1_gap_10) (fun v10 => ?_)
  refine rk_of (fun _ _ _ _ _ k => lv_iload_n hx hb dX1_gap_13 rfl (lv_at hl 2 rfl) (lv_iload_n hx hb dX1_gap_14 rfl (lv_at hl 3 rfl) k)) ?_
  refine rk_callI hX (cl_S (rest := []) C (ct_X1_endOf H v10 a2 a3) (lw_S q1847 q1848 q101 q1849) hd_X1_endOf ⟨(Nat.le_of_ble_eq_true rfl), (Nat.le_of_ble_eq_true rfl)⟩ rfl hl.1 rfl (zw_le zw_nil (Nat.le_of_ble_eq_true rfl)) dX1_gap_15) (fun v15 => ?_)
  exact rk_top (rf_iret C rfl dX1_gap_18)
theorem hd_X0_gap : yX0_gap.cls ≠ "java/lang/invoke/MethodHandle" ∧ yX0_gap.cls ≠ "java/lang/invoke/VarHandle" ∧ (parseMethodDescriptor yX0_gap.desc).map (fun d => d.parameters.length) = some 5 := by decide +kernel
noncomputable def fn_X0_gap (K : zm_K) (a0 : zm_R) (a1 : Int32) (a2 : Int32) (a3 : Int32) (a4 : zm_R) : zm_M Int32 :=
  zm_cth (zm_bnd (zm_is a0 18) fun _ => fn_X1_gap K a0 a1 a2 a3) (fun (E7 : String) (q7 : Nat) =>
      if E7 ∈ (["java/lang/IndexOutOfBoundsException", "java/lang/ArrayIndexOutOfBoundsException", "java/lang/StringIndexOutOfBoundsException"] : List String) then
        zm_ret 1
      else
        if E7 ∈ (["java/util/NoSuchElementException"] : List String) then
          zm_ret 2
        else
          if E7 ∈ (["java/lang/IllegalArgumentException", "java/lang/UnsupportedOperationException", "java/lang/IllegalStateException", "java/lang/ArithmeticException", "BoxSpans$Refusal", "BoxSpans$TextError"] : List String) then
            zm_thr E7 q7
          else
            zm_fl
    ) fun v7 =>
  zm_bnd (zm_astJ K a4 0 ((v7).toInt64)) fun _ =>
  zm_ret 0
theorem ct_X0_gap {l : Launch} {Ω : zm_W} {K : zm_K} (H : zm_H Ω K) (a0 : zm_R) (a1 : Int32) (a2 : Int32) (a3 : Int32) (a4 : zm_R) : zm_Ct l Ω yX0_gap (wsW_ yX0_gap cX0_gap 6 (Option.some Jvm.ClassFile.FieldType.int) [(0, 12, 15, 21), (0, 12, 19, 62)]) 20 3245 [va_rf a0, .int a1, .int a2, .int a3, va_rf a4] zm_tvI (fn_X0_gap K a0 a1 a2 a3 a4) := by
  refine zm_ctW H.1 (by decide +kernel) (zl_le (zl_R (zl_I (zl_I (zl_I (zl_R zl_nil))))) (Nat.le_of_ble_eq_true rfl)) ?_
  intro p e R s m args below meth c n0 k0 C hN hT ls hl
  have hx := C.1
  have hb := C.2.1
  simp only [zg_I, zg_R, zg_nil] at hl
  have hl : lv_has ls 6 [(0, va_rf a0), (1, .int a1), (2, .int a2), (3, .int a3), (4, va_rf a4)] := hl
  refine rk_rf ?_
  unfold fn_X0_gap
  refine rk_of (fun _ _ _ _ _ k => lr_aload hx hb dX0_gap_0 (lv_at hl 4 rfl) (lv_iconst (v := 0) hx hb dX0_gap_2 rfl (lr_aload_n hx hb dX0_gap_3 rfl (lv_at hl 0 rfl) (lv_iload_n hx hb dX0_gap_4 rfl (lv_at hl 1 rfl) (lv_iload_n hx hb dX0_gap_5 rfl (lv_at hl 2 rfl) (lv_iload_n hx hb dX0_gap_6 rfl (lv_at hl 3 rfl) k)))))) ?_
  refine rk_cthI (cl_V (rest := [.int 0, va_rf a4]) (av := [.int a1, .int a2, .int a3]) C (hc_X1 H) (ct_X1_gap H a0 a1 a2 a3) (lw_V q1861 q1862 q1863 q101 q1864) ⟨rfl, hd_X1_gap⟩ ⟨(Nat.le_of_ble_eq_true rfl), (Nat.le_of_ble_eq_true rfl)⟩ rfl hl.1 rfl (zw_le (zw_I (zw_R zw_nil)) (Nat.le_of_ble_eq_true rfl)) dX0_gap_7) (fun E7 q7 => ?_) (fun v7 => ?_)
  · refine rx_ite (fun h7_0 => ?_) (fun h7_0 => ?_)
    · refine rx_cat (k := 0) C hT rfl zp_nil ⟨by decide, by decide⟩ (by decide) q1373 ((zp_cons (P := fun E => (Cond.castable E "java/lang/IndexOutOfBoundsException").before args s = true) (zn_wC H C q360) (zp_cons (P := fun E => (Cond.castable E "java/lang/IndexOutOfBoundsException").before args s = true) (zn_wC H C q3093) (zp_cons (P := fun E => (Cond.castable E "java/lang/IndexOutOfBoundsException").before args s = true) (zn_wC H C q3094) zp_nil))) E7 h7_0) ?_
      refine rk_ofs (fun _ _ _ _ _ k => lr_astore hx hb dX0_gap_15 hl (Nat.le_of_ble_eq_true rfl) [] rfl trivial k) (fun ls hl => ?_)
      refine rk_of (fun _ _ _ _ _ k => lv_iconst (v := 1) hx hb dX0_gap_17 rfl k) ?_
      exact rk_top (rf_iret C rfl dX0_gap_18)
    · refine rx_ite (fun h7_1 => ?_) (fun h7_1 => ?_)
      · refine rx_cat (k := 1) C hT rfl (zp_cons (Or.inr ⟨by decide, _, q1373, zh_ncs H C (L := ["java/util/NoSuchElementException"]) (by decide) h7_1⟩) zp_nil) ⟨by decide, by decide⟩ (by decide) q1697 ((zp_cons (P := fun E => (Cond.castable E "java/util/NoSuchElementException").before args s = true) (zn_wC H C q788) zp_nil) E7 h7_1) ?_
        refine rk_ofs (fun _ _ _ _ _ k => lr_astore hx hb dX0_gap_19 hl (Nat.le_of_ble_eq_true rfl) [] rfl trivial k) (fun ls hl => ?_)
        refine rk_of (fun _ _ _ _ _ k => lv_iconst (v := 2) hx hb dX0_gap_21 rfl k) ?_
        exact rk_top (rf_iret C rfl dX0_gap_22)
      · refine rx_ite (fun h7_x => ?_) (fun _ => rx_fl)
        exact rx_out C hT (zp_cons (Or.inr ⟨by decide, _, q1373, zh_ncs H C (L := ["java/lang/IllegalArgumentException", "java/lang/UnsupportedOperationException", "java/lang/IllegalStateException", "java/lang/ArithmeticException", "BoxSpans$Refusal", "BoxSpans$TextError"]) (by decide) h7_x⟩) (zp_cons (Or.inr ⟨by decide, _, q1697, zh_ncs H C (L := ["java/lang/IllegalArgumentException", "java/lang/UnsupportedOperationException", "java/lang/IllegalStateException", "java/lang/ArithmeticException", "BoxSpans$Refusal", "BoxSpans$TextError"]) (by decide) h7_x⟩) zp_nil))
  refine rk_of (fun _ _ _ _ _ k => lv_i2l hx hb dX0_gap_10 rfl k) ?_
  refine rk_last C H.2.2.1 dX0_gap_11 ?_
  refine rk_of (fun _ _ _ _ _ k => lv_goto (tgt := 23) hx hb dX0_gap_12 (by decide) (lv_iconst (v := 0) hx hb dX0_gap_23 rfl k)) ?_
  exact rk_top (rf_iret C rfl dX0_gap_24)
theorem hd_X9_first : yX9_first.cls ≠ "java/lang/invoke/MethodHandle" ∧ yX9_first.cls ≠ "java/lang/invoke/VarHandle" ∧ (parseMethodDescriptor yX9_first.desc).map (fun d => d.parameters.length) = some 1 := by decide +kernel
noncomputable def fn_X9_first_5 (K : zm_K) (p1 : Int32) (p2 : zm_R) : Nat → zm_M ((Unit) ⊕ (zm_R))
  | 0 => zm_fl
  | n + 1 =>
    zm_bnd (zm_bnd (zm_cls p2) fun ci => if ci = 26 then fn_X10_hasNext K p2 else if ci = 9 then fn_J22_hasNext K p2 else if ci = 11 then fn_J25_hasNext K p2 else zm_fl) fun v6 =>
    if v6 = 0 then
      zm_ret (Sum.inl ())
    else
      zm_bnd (zm_bnd (zm_cls p2) fun ci => if ci = 26 then fn_X10_next K p2 else if ci = 9 then fn_J22_next K p2 else if ci = 11 then fn_J25_next K p2 else zm_fl) fun v15 =>
      zm_bnd (zm_chk [22] [] v15) fun _ =>
      zm_bnd (zm_bnd (zm_is v15 22) fun _ => fn_X7_length K v15) fun v25 =>
      if v25 < p1 then
        fn_X9_first_5 K p1 p2 n
      else
        zm_ret (Sum.inr v15)
noncomputable def fn_X9_first (K : zm_K) (a0 : zm_R) (a1 : Int32) : zm_M zm_R :=
  zm_bnd (zm_bnd (zm_is a0 25) fun _ => fn_X9_iterator K a0) fun v1 =>
  zm_bnx (β := Unit) (fn_X9_first_5 K a1 v1 zm_N) fun (_ : Unit) =>
  zm_ret none
theorem rf_X9_first_5 (H : zm_H Ω K) (C : zm_C p l R s m args meth c Ω lw_all cX9_first yX9_first.cls yX9_first.name 4 17 415 (Option.some (Jvm.ClassFile.FieldType.object "BoxSpans$Span"))) (hX : zm_XO p l e R s m args below meth c Ω n0 k0 (zm_QFs below args s Ω n0 k0 zm_tvR)) (p1 : Int32) (p2 : zm_R) : ∀ (n : Nat) (J : ((Unit) ⊕ (zm_R)) → zm_M zm_R) (ls : Array Slot), lv_has ls 4 [(1, .int p1), (2, va_rf p2)] → (∀ (b : Unit) (ls : Array Slot), lv_has ls 4 [] → zm_RK p l e R s m args below meth c Ω n0 k0 (zm_QFs below args s Ω n0 k0 zm_tvR) (zm_ret (Sum.inl b)) J (F0 m 37 ls [])) → (∀ (v : zm_R) (g : JFrame), zm_RF p l e R s m args below meth c Ω n0 k0 (zm_QFs below args s Ω n0 k0 zm_tvR) (zm_ret v) g → zm_RK p l e R s m args below meth c Ω n0 k0 (zm_QFs below args s Ω n0 k0 zm_tvR) (zm_ret (Sum.inr v)) J g) → zm_RK p l e R s m args below meth c Ω n0 k0 (zm_QFs below args s Ω n0 k0 zm_tvR) (fn_X9_first_5 K p1 p2 n) J (F0 m 5 ls []) := by
  have hx := C.1
  have hb := C.2.1
  intro n
  induction n with
  | zero => intro J ls hl hJ hR; exact rk_fl
  | succ n ih =>
    intro J ls hl hJ hR
    unfold fn_X9_first_5
    refine rk_of (fun _ _ _ _ _ k => lr_aload_n hx hb dX9_first_5 rfl (lv_at hl 1 rfl) k) ?_
    refine rk_callI hX (cl_dsp (fun ci => cl_case (cl_F (n := 0) (rest := []) (av := []) C (hc_X10 H) (ct_X10_hasNext H p2) (lw_F q1825 q737 q739 q143 q741) (zh_Fw H C (by decide) q735 q734 q740 q738 q736) (by decide +kernel) ⟨(Nat.le_of_ble_eq_true rfl), (Nat.le_of_ble_eq_true rfl)⟩ rfl hl.1 rfl (zw_le zw_nil (Nat.le_of_ble_eq_true rfl)) dX9_first_6) (cl_case (cl_F (n := 0) (rest := []) (av := []) C (hc_J22 H) (ct_J22_hasNext H p2) (lw_F q1825 q758 q760 q129 q762) (zh_Fw H C (by decide) q735 q734 q761 q759 q757) (by decide +kernel) ⟨(Nat.le_of_ble_eq_true rfl), (Nat.le_of_ble_eq_true rfl)⟩ rfl hl.1 rfl (zw_le zw_nil (Nat.le_of_ble_eq_true rfl)) dX9_first_6) (cl_case (cl_F (n := 0) (rest := []) (av := []) C (hc_J25 H) (ct_J25_hasNext H p2) (lw_F q1825 q767 q769 q133 q771) (zh_Fw H C (by decide) q735 q734 q770 q768 q766) (by decide +kernel) ⟨(Nat.le_of_ble_eq_true rfl), (Nat.le_of_ble_eq_true rfl)⟩ rfl hl.1 rfl (zw_le zw_nil (Nat.le_of_ble_eq_true rfl)) dX9_first_6) (cl_fl))))) (fun v6 => ?_)
    refine rk_ite (fun _ _ _ _ _ k1 k2 => lv_if_eq (tgt := 37) hx hb dX9_first_11 (by decide) k1 k2) (fun c_11 => ?_) (fun c_11 => ?_)
    · exact hJ () ls (lv_sub hl [] rfl)
    · refine rk_of (fun _ _ _ _ _ k => lr_aload_n hx hb dX9_first_14 rfl (lv_at hl 1 rfl) k) ?_
      refine rk_callR hX (cl_dsp (fun ci => cl_case (cl_F (n := 0) (rest := []) (av := []) C (hc_X10 H) (ct_X10_next H p2) (lw_F q1827 q776 q778 q143 q780) (zh_Fw H C (by decide) q775 q774 q779 q777 q736) (by decide +kernel) ⟨(Nat.le_of_ble_eq_true rfl), (Nat.le_of_ble_eq_true rfl)⟩ rfl hl.1 rfl (zw_le zw_nil (Nat.le_of_ble_eq_true rfl)) dX9_first_15) (cl_case (cl_F (n := 0) (rest := []) (av := []) C (hc_J22 H) (ct_J22_next H p2) (lw_F q1827 q966 q968 q129 q970) (zh_Fw H C (by decide) q775 q774 q969 q967 q757) (by decide +kernel) ⟨(Nat.le_of_ble_eq_true rfl), (Nat.le_of_ble_eq_true rfl)⟩ rfl hl.1 rfl (zw_le zw_nil (Nat.le_of_ble_eq_true rfl)) dX9_first_15) (cl_case (cl_F (n := 0) (rest := []) (av := []) C (hc_J25 H) (ct_J25_next H p2) (lw_F q1827 q981 q983 q133 q985) (zh_Fw H C (by decide) q775 q774 q984 q982 q766) (by decide +kernel) ⟨(Nat.le_of_ble_eq_true rfl), (Nat.le_of_ble_eq_true rfl)⟩ rfl hl.1 rfl (zw_le zw_nil (Nat.le_of_ble_eq_true rfl)) dX9_first_15) (cl_fl))))) (fun v15 => ?_)
      refine rk_chk C q1828 (zc_cons (zc_s (hc_X5 H)) zc_nil) zp_nil dX9_first_20 ?_
      refine rk_ofs (fun _ _ _ _ _ k => lr_astore_n hx hb dX9_first_23 rfl hl (Nat.le_of_ble_eq_true rfl) [0, 1] rfl ⟨trivial, ⟨(by first | exact va_rf_cat _ | rfl), trivial⟩⟩ k) (fun ls hl => ?_)
      refine rk_of (fun _ _ _ _ _ k => lr_aload_n hx hb dX9_first_24 rfl (lv_at hl 0 rfl) k) ?_
      refine rk_callI hX (cl_D (n := 0) (rest := []) (av := []) C (hc_X5 H) (ct_X7_length H v15) (lw_meth q1113) q140 ((zh_df H).choose_spec.1 _ (List.mem_of_getElem? (i := 13) rfl)) ((zh_df H).choose_spec.1 _ (List.mem_of_getElem? (i := 8) rfl)) ((zh_df H).choose_spec.2 _ (List.mem_of_getElem? (i := 3) rfl)) (zn_wD H C q1109) q1111 (by decide) (by decide +kernel) ⟨(Nat.le_of_ble_eq_true rfl), (Nat.le_of_ble_eq_true rfl)⟩ rfl hl.1 rfl (zw_le zw_nil (Nat.le_of_ble_eq_true rfl)) dX9_first_25) (fun v25 => ?_)
      refine rk_ite (fun _ _ _ _ _ k1 k2 => lv_iload_n hx hb dX9_first_28 rfl (lv_at hl 1 rfl) (lv_icmp_lt (tgt := 34) hx hb dX9_first_29 (by decide) k1 k2)) (fun c_29 => ?_) (fun c_29 => ?_)
      · refine rk_of (fun _ _ _ _ _ k => lv_goto (tgt := 5) hx hb dX9_first_34 (by decide) k) ?_
        exact ih J ls (lv_sub hl [1, 2] rfl) hJ hR
      · refine rk_of (fun _ _ _ _ _ k => lr_aload_n hx hb dX9_first_32 rfl (lv_at hl 0 rfl) k) ?_
        exact hR _ _ (rf_aret C (Or.inl ⟨_, rfl⟩) dX9_first_33)
theorem ct_X9_first {l : Launch} {Ω : zm_W} {K : zm_K} (H : zm_H Ω K) (a0 : zm_R) (a1 : Int32) : zm_Ct l Ω yX9_first (ws_ yX9_first cX9_first 4 (Option.some (Jvm.ClassFile.FieldType.object "BoxSpans$Span"))) 17 415 [va_rf a0, .int a1] zm_tvR (fn_X9_first K a0 a1) := by
  refine zm_ct H.1 (by decide +kernel) (zl_le (zl_R (zl_I zl_nil)) (Nat.le_of_ble_eq_true rfl)) ?_
  intro p e R s m args below meth c n0 k0 C hX ls hl
  have hx := C.1
  have hb := C.2.1
  simp only [zg_I, zg_R, zg_nil] at hl
  have hl : lv_has ls 4 [(0, va_rf a0), (1, .int a1)] := hl
  refine rk_rf ?_
  unfold fn_X9_first
  refine rk_of (fun _ _ _ _ _ k => lr_aload_n hx hb dX9_first_0 rfl (lv_at hl 0 rfl) k) ?_
  refine rk_callR hX (cl_V (rest := []) (av := []) C (hc_X9 H) (ct_X9_iterator H a0) (lw_V q1807 q1808 q1809 q142 q1810) ⟨rfl, hd_X9_iterator⟩ ⟨(Nat.le_of_ble_eq_true rfl), (Nat.le_of_ble_eq_true rfl)⟩ rfl hl.1 rfl (zw_le zw_nil (Nat.le_of_ble_eq_true rfl)) dX9_first_1) (fun v1 => ?_)
  refine rk_ofs (fun _ _ _ _ _ k => lr_astore_n hx hb dX9_first_4 rfl hl (Nat.le_of_ble_eq_true rfl) [1] rfl ⟨rfl, trivial⟩ k) (fun ls hl => ?_)
  refine rk_joinx (β := Unit) (fun (b37 : Unit) ls => lv_has ls 4 []) (fun (b37 : Unit) ls => F0 m 37 ls []) (fun b37 ls hl => ?_) (fun hJ37 => ?_)
  · refine rk_of (fun _ _ _ _ _ k => lr_null hx hb dX9_first_37 k) ?_
    exact rk_top (rf_aret C (Or.inl ⟨_, rfl⟩) dX9_first_38)
  · exact rf_X9_first_5 H C hX a1 v1 zm_N _ ls (lv_sub hl [1, 0] rfl) hJ37 (fun v g k9 => by
        refine rk_inr ?_
        exact rk_top (k9))
theorem hd_X1_fits : yX1_fits.cls ≠ "java/lang/invoke/MethodHandle" ∧ yX1_fits.cls ≠ "java/lang/invoke/VarHandle" ∧ (parseMethodDescriptor yX1_fits.desc).map (fun d => d.parameters.length) = some 2 := by decide +kernel
noncomputable def fn_X1_fits (K : zm_K) (a0 : zm_R) (a1 : Int32) (a2 : Int32) : zm_M Int32 :=
  zm_bnd (zm_bnd (zm_is a0 18) fun _ => fn_X1_requireBox K a0 a1) fun _ =>
  zm_bnd (fn_X1_isIn K a2 1 600) fun v10 =>
  zm_bnd (fn_X1_require K v10) fun _ =>
  zm_bnd (zm_getR a0 18 0) fun v17 =>
  zm_bnd (zm_bnd (zm_is v17 19) fun _ => fn_X2_gaps K v17 a1) fun v21 =>
  zm_bnd (zm_bnd (zm_is v21 25) fun _ => fn_X9_first K v21 a2) fun v25 =>
  zm_bnd (α := Int32) (
      if v25 = none then
        zm_ret 0
      else
        zm_ret 1
    ) fun b38 =>
  zm_bnd (fn_X1_requireElement K b38) fun _ =>
  zm_bnd (zm_bnd (zm_is v25 22) fun _ => fn_X5_from K v25) fun v42 =>
  zm_ret v42
theorem ct_X1_fits {l : Launch} {Ω : zm_W} {K : zm_K} (H : zm_H Ω K) (a0 : zm_R) (a1 : Int32) (a2 : Int32) : zm_Ct l Ω yX1_fits (ws_ yX1_fits cX1_fits 4 (Option.some Jvm.ClassFile.FieldType.int)) 19 3222 [va_rf a0, .int a1, .int a2] zm_tvI (fn_X1_fits K a0 a1 a2) := by
  refine zm_ct H.1 (by decide +kernel) (zl_le (zl_R (zl_I (zl_I zl_nil))) (Nat.le_of_ble_eq_true rfl)) ?_
  intro p e R s m args below meth c n0 k0 C hX ls hl
  have hx := C.1
  have hb := C.2.1
  simp only [zg_I, zg_R, zg_nil] at hl
  have hl : lv_has ls 4 [(0, va_rf a0), (1, .int a1), (2, .int a2)] := hl
  refine rk_rf ?_
  unfold fn_X1_fits
  refine rk_of (fun _ _ _ _ _ k => lr_aload_n hx hb dX1_fits_0 rfl (lv_at hl 0 rfl) (lv_iload_n hx hb dX1_fits_1 rfl (lv_at hl 1 rfl) k)) ?_
  refine rk_callV hX (cl_V (rest := []) (av := [.int a1]) C (hc_X1 H) (ct_X1_requireBox H a0 a1) (lw_V q1393 q1395 qs15 q101 q1396) ⟨rfl, hd_X1_requireBox⟩ ⟨(Nat.le_of_ble_eq_true rfl), (Nat.le_of_ble_eq_true rfl)⟩ rfl hl.1 rfl (zw_le zw_nil (Nat.le_of_ble_eq_true rfl)) dX1_fits_2) (fun _ => ?_)
  refine rk_of (fun _ _ _ _ _ k => lv_iload_n hx hb dX1_fits_5 rfl (lv_at hl 2 rfl) (lv_iconst (v := 1) hx hb dX1_fits_6 rfl (lv_sipush (v := 600) hx hb dX1_fits_7 rfl k))) ?_
  refine rk_callI hX (cl_S (rest := []) C (ct_X1_isIn H a2 1 600) (lw_S q1132 q1133 q101 q1134) hd_X1_isIn ⟨(Nat.le_of_ble_eq_true rfl), (Nat.le_of_ble_eq_true rfl)⟩ rfl hl.1 rfl (zw_le zw_nil (Nat.le_of_ble_eq_true rfl)) dX1_fits_10) (fun v10 => ?_)
  refine rk_callV hX (cl_S (rest := []) C (ct_X1_require H v10) (lw_S q1135 q1136 q101 q1137) hd_X1_require ⟨(Nat.le_of_ble_eq_true rfl), (Nat.le_of_ble_eq_true rfl)⟩ rfl hl.1 rfl (zw_le zw_nil (Nat.le_of_ble_eq_true rfl)) dX1_fits_13) (fun _ => ?_)
  refine rk_of (fun _ _ _ _ _ k => lr_aload_n hx hb dX1_fits_16 rfl (lv_at hl 0 rfl) k) ?_
  refine rk_get zm_rdR_eq C (hc_X1 H) (k := 0) (Nat.le_of_ble_eq_true rfl) in_X1 q271 (fun _ h => h) dX1_fits_17 (fun v17 => ?_)
  refine rk_of (fun _ _ _ _ _ k => lv_iload_n hx hb dX1_fits_20 rfl (lv_at hl 1 rfl) k) ?_
  refine rk_callR hX (cl_V (rest := []) (av := [.int a1]) C (hc_X2 H) (ct_X2_gaps H v17 a1) (lw_V q1829 q1830 q1831 q102 q1832) ⟨rfl, hd_X2_gaps⟩ ⟨(Nat.le_of_ble_eq_true rfl), (Nat.le_of_ble_eq_true rfl)⟩ rfl hl.1 rfl (zw_le zw_nil (Nat.le_of_ble_eq_true rfl)) dX1_fits_21) (fun v21 => ?_)
  refine rk_of (fun _ _ _ _ _ k => lv_iload_n hx hb dX1_fits_24 rfl (lv_at hl 2 rfl) k) ?_
  refine rk_callR hX (cl_V (rest := []) (av := [.int a2]) C (hc_X9 H) (ct_X9_first H v21 a2) (lw_V q1872 q1873 q1874 q142 q1875) ⟨rfl, hd_X9_first⟩ ⟨(Nat.le_of_ble_eq_true rfl), (Nat.le_of_ble_eq_true rfl)⟩ rfl hl.1 rfl (zw_le zw_nil (Nat.le_of_ble_eq_true rfl)) dX1_fits_25) (fun v25 => ?_)
  refine rk_ofs (fun _ _ _ _ _ k => lr_astore_n hx hb dX1_fits_28 rfl hl (Nat.le_of_ble_eq_true rfl) [] rfl trivial k) (fun ls hl => ?_)
  refine rk_of (fun _ _ _ _ _ k => lr_aload_n hx hb dX1_fits_29 rfl (lv_at hl 0 rfl) k) ?_
  refine rk_join (β := Int32) (fun (b38 : Int32) ls => lv_has ls 4 [(3, va_rf v25)]) (fun (b38 : Int32) ls => F0 m 38 ls [.int b38]) (fun b38 ls hl => ?_) (fun hJ38 => ?_)
  · refine rk_callV hX (cl_S (rest := []) C (ct_X1_requireElement H b38) (lw_S q1717 q1718 q101 q1719) hd_X1_requireElement ⟨(Nat.le_of_ble_eq_true rfl), (Nat.le_of_ble_eq_true rfl)⟩ rfl hl.1 rfl (zw_le zw_nil (Nat.le_of_ble_eq_true rfl)) dX1_fits_38) (fun _ => ?_)
    refine rk_of (fun _ _ _ _ _ k => lr_aload_n hx hb dX1_fits_41 rfl (lv_at hl 0 rfl) k) ?_
    refine rk_callI hX (cl_V (rest := []) (av := []) C (hc_X5 H) (ct_X5_from H v25) (lw_V q1876 q1011 q1012 q135 q1013) ⟨rfl, hd_X5_from⟩ ⟨(Nat.le_of_ble_eq_true rfl), (Nat.le_of_ble_eq_true rfl)⟩ rfl hl.1 rfl (zw_le zw_nil (Nat.le_of_ble_eq_true rfl)) dX1_fits_42) (fun v42 => ?_)
    exact rk_top (rf_iret C rfl dX1_fits_45)
  · refine rk_ite (fun _ _ _ _ _ k1 k2 => lr_ifnull (tgt := 37) hx hb dX1_fits_30 (by decide) k1 k2) (fun c_30 => ?_) (fun c_30 => ?_)
    · refine rk_of (fun _ _ _ _ _ k => lv_iconst (v := 0) hx hb dX1_fits_37 rfl k) ?_
      exact hJ38 0 ls (lv_sub hl [0] rfl)
    · refine rk_of (fun _ _ _ _ _ k => lv_iconst (v := 1) hx hb dX1_fits_33 rfl (lv_goto (tgt := 38) hx hb dX1_fits_34 (by decide) k)) ?_
      exact hJ38 1 ls (lv_sub hl [0] rfl)
theorem hd_X0_fits : yX0_fits.cls ≠ "java/lang/invoke/MethodHandle" ∧ yX0_fits.cls ≠ "java/lang/invoke/VarHandle" ∧ (parseMethodDescriptor yX0_fits.desc).map (fun d => d.parameters.length) = some 4 := by decide +kernel
noncomputable def fn_X0_fits (K : zm_K) (a0 : zm_R) (a1 : Int32) (a2 : Int32) (a3 : zm_R) : zm_M Int32 :=
  zm_cth (zm_bnd (zm_is a0 18) fun _ => fn_X1_fits K a0 a1 a2) (fun (E5 : String) (q5 : Nat) =>
      if E5 ∈ (["java/lang/IndexOutOfBoundsException", "java/lang/ArrayIndexOutOfBoundsException", "java/lang/StringIndexOutOfBoundsException"] : List String) then
        zm_ret 1
      else
        if E5 ∈ (["java/lang/IllegalArgumentException"] : List String) then
          zm_ret 2
        else
          if E5 ∈ (["java/util/NoSuchElementException"] : List String) then
            zm_ret 3
          else
            if E5 ∈ (["java/lang/UnsupportedOperationException", "java/lang/IllegalStateException", "java/lang/ArithmeticException", "BoxSpans$Refusal", "BoxSpans$TextError"] : List String) then
              zm_thr E5 q5
            else
              zm_fl
    ) fun v5 =>
  zm_bnd (zm_astJ K a3 0 ((v5).toInt64)) fun _ =>
  zm_ret 0
theorem ct_X0_fits {l : Launch} {Ω : zm_W} {K : zm_K} (H : zm_H Ω K) (a0 : zm_R) (a1 : Int32) (a2 : Int32) (a3 : zm_R) : zm_Ct l Ω yX0_fits (wsW_ yX0_fits cX0_fits 5 (Option.some Jvm.ClassFile.FieldType.int) [(0, 10, 13, 21), (0, 10, 17, 13), (0, 10, 21, 62)]) 20 3245 [va_rf a0, .int a1, .int a2, va_rf a3] zm_tvI (fn_X0_fits K a0 a1 a2 a3) := by
  refine zm_ctW H.1 (by decide +kernel) (zl_le (zl_R (zl_I (zl_I (zl_R zl_nil)))) (Nat.le_of_ble_eq_true rfl)) ?_
  intro p e R s m args below meth c n0 k0 C hN hT ls hl
  have hx := C.1
  have hb := C.2.1
  simp only [zg_I, zg_R, zg_nil] at hl
  have hl : lv_has ls 5 [(0, va_rf a0), (1, .int a1), (2, .int a2), (3, va_rf a3)] := hl
  refine rk_rf ?_
  unfold fn_X0_fits
  refine rk_of (fun _ _ _ _ _ k => lr_aload_n hx hb dX0_fits_0 rfl (lv_at hl 3 rfl) (lv_iconst (v := 0) hx hb dX0_fits_1 rfl (lr_aload_n hx hb dX0_fits_2 rfl (lv_at hl 0 rfl) (lv_iload_n hx hb dX0_fits_3 rfl (lv_at hl 1 rfl) (lv_iload_n hx hb dX0_fits_4 rfl (lv_at hl 2 rfl) k))))) ?_
  refine rk_cthI (cl_V (rest := [.int 0, va_rf a3]) (av := [.int a1, .int a2]) C (hc_X1 H) (ct_X1_fits H a0 a1 a2) (lw_V q1868 q1869 q1870 q101 q1871) ⟨rfl, hd_X1_fits⟩ ⟨(Nat.le_of_ble_eq_true rfl), (Nat.le_of_ble_eq_true rfl)⟩ rfl hl.1 rfl (zw_le (zw_I (zw_R zw_nil)) (Nat.le_of_ble_eq_true rfl)) dX0_fits_5) (fun E5 q5 => ?_) (fun v5 => ?_)
  · refine rx_ite (fun h5_0 => ?_) (fun h5_0 => ?_)
    · refine rx_cat (k := 0) C hT rfl zp_nil ⟨by decide, by decide⟩ (by decide) q1373 ((zp_cons (P := fun E => (Cond.castable E "java/lang/IndexOutOfBoundsException").before args s = true) (zn_wC H C q360) (zp_cons (P := fun E => (Cond.castable E "java/lang/IndexOutOfBoundsException").before args s = true) (zn_wC H C q3093) (zp_cons (P := fun E => (Cond.castable E "java/lang/IndexOutOfBoundsException").before args s = true) (zn_wC H C q3094) zp_nil))) E5 h5_0) ?_
      refine rk_ofs (fun _ _ _ _ _ k => lr_astore hx hb dX0_fits_13 hl (Nat.le_of_ble_eq_true rfl) [] rfl trivial k) (fun ls hl => ?_)
      refine rk_of (fun _ _ _ _ _ k => lv_iconst (v := 1) hx hb dX0_fits_15 rfl k) ?_
      exact rk_top (rf_iret C rfl dX0_fits_16)
    · refine rx_ite (fun h5_1 => ?_) (fun h5_1 => ?_)
      · refine rx_cat (k := 1) C hT rfl (zp_cons (Or.inr ⟨by decide, _, q1373, zh_ncs H C (L := ["java/lang/IllegalArgumentException"]) (by decide) h5_1⟩) zp_nil) ⟨by decide, by decide⟩ (by decide) q1126 ((zp_cons (P := fun E => (Cond.castable E "java/lang/IllegalArgumentException").before args s = true) (zn_wC H C q597) zp_nil) E5 h5_1) ?_
        refine rk_ofs (fun _ _ _ _ _ k => lr_astore hx hb dX0_fits_17 hl (Nat.le_of_ble_eq_true rfl) [] rfl trivial k) (fun ls hl => ?_)
        refine rk_of (fun _ _ _ _ _ k => lv_iconst (v := 2) hx hb dX0_fits_19 rfl k) ?_
        exact rk_top (rf_iret C rfl dX0_fits_20)
      · refine rx_ite (fun h5_2 => ?_) (fun h5_2 => ?_)
        · refine rx_cat (k := 2) C hT rfl (zp_cons (Or.inr ⟨by decide, _, q1373, zh_ncs H C (L := ["java/util/NoSuchElementException"]) (by decide) h5_2⟩) (zp_cons (Or.inr ⟨by decide, _, q1126, zh_ncs H C (L := ["java/util/NoSuchElementException"]) (by decide) h5_2⟩) zp_nil)) ⟨by decide, by decide⟩ (by decide) q1697 ((zp_cons (P := fun E => (Cond.castable E "java/util/NoSuchElementException").before args s = true) (zn_wC H C q788) zp_nil) E5 h5_2) ?_
          refine rk_ofs (fun _ _ _ _ _ k => lr_astore hx hb dX0_fits_21 hl (Nat.le_of_ble_eq_true rfl) [] rfl trivial k) (fun ls hl => ?_)
          refine rk_of (fun _ _ _ _ _ k => lv_iconst (v := 3) hx hb dX0_fits_23 rfl k) ?_
          exact rk_top (rf_iret C rfl dX0_fits_24)
        · refine rx_ite (fun h5_x => ?_) (fun _ => rx_fl)
          exact rx_out C hT (zp_cons (Or.inr ⟨by decide, _, q1373, zh_ncs H C (L := ["java/lang/UnsupportedOperationException", "java/lang/IllegalStateException", "java/lang/ArithmeticException", "BoxSpans$Refusal", "BoxSpans$TextError"]) (by decide) h5_x⟩) (zp_cons (Or.inr ⟨by decide, _, q1126, zh_ncs H C (L := ["java/lang/UnsupportedOperationException", "java/lang/IllegalStateException", "java/lang/ArithmeticException", "BoxSpans$Refusal", "BoxSpans$TextError"]) (by decide) h5_x⟩) (zp_cons (Or.inr ⟨by decide, _, q1697, zh_ncs H C (L := ["java/lang/UnsupportedOperationException", "java/lang/IllegalStateException", "java/lang/ArithmeticException", "BoxSpans$Refusal", "BoxSpans$TextError"]) (by decide) h5_x⟩) zp_nil)))
  refine rk_of (fun _ _ _ _ _ k => lv_i2l hx hb dX0_fits_8 rfl k) ?_
  refine rk_last C H.2.2.1 dX0_fits_9 ?_
  refine rk_of (fun _ _ _ _ _ k => lv_goto (tgt := 25) hx hb dX0_fits_10 (by decide) (lv_iconst (v := 0) hx hb dX0_fits_25 rfl k)) ?_
  exact rk_top (rf_iret C rfl dX0_fits_26)
theorem hd_X1_roomFor : yX1_roomFor.cls ≠ "java/lang/invoke/MethodHandle" ∧ yX1_roomFor.cls ≠ "java/lang/invoke/VarHandle" ∧ (parseMethodDescriptor yX1_roomFor.desc).map (fun d => d.parameters.length) = some 3 := by decide +kernel
noncomputable def fn_X1_roomFor (K : zm_K) (a0 : zm_R) (a1 : Int32) (a2 : Int32) (a3 : Int32) : zm_M Int32 :=
  zm_bnd (fn_X1_requireSpan K a1 a2 a3) fun _ =>
  zm_bnd (zm_getR a0 18 0) fun v7 =>
  zm_bnd (zm_new 22 [.int 0, .int 0]) fun v11 =>
  zm_bnd (fn_X5_init K (some v11) a2 a3) fun _ =>
  zm_bnd (zm_bnd (zm_is v7 19) fun _ => fn_X2_roomFor K v7 a1 (some v11)) fun v20 =>
  zm_bnd (α := Int32) (
      if v20 = (-1) then
        zm_ret 0
      else
        zm_ret 1
    ) fun b36 =>
  zm_bnd (fn_X1_requireElement K b36) fun _ =>
  zm_ret v20
theorem ct_X1_roomFor {l : Launch} {Ω : zm_W} {K : zm_K} (H : zm_H Ω K) (a0 : zm_R) (a1 : Int32) (a2 : Int32) (a3 : Int32) : zm_Ct l Ω yX1_roomFor (ws_ yX1_roomFor cX1_roomFor 5 (Option.some Jvm.ClassFile.FieldType.int)) 13 324 [va_rf a0, .int a1, .int a2, .int a3] zm_tvI (fn_X1_roomFor K a0 a1 a2 a3) := by
  refine zm_ct H.1 (by decide +kernel) (zl_le (zl_R (zl_I (zl_I (zl_I zl_nil)))) (Nat.le_of_ble_eq_true rfl)) ?_
  intro p e R s m args below meth c n0 k0 C hX ls hl
  have hx := C.1
  have hb := C.2.1
  simp only [zg_I, zg_R, zg_nil] at hl
  have hl : lv_has ls 5 [(0, va_rf a0), (1, .int a1), (2, .int a2), (3, .int a3)] := hl
  refine rk_rf ?_
  unfold fn_X1_roomFor
  refine rk_of (fun _ _ _ _ _ k => lv_iload_n hx hb dX1_roomFor_0 rfl (lv_at hl 1 rfl) (lv_iload_n hx hb dX1_roomFor_1 rfl (lv_at hl 2 rfl) (lv_iload_n hx hb dX1_roomFor_2 rfl (lv_at hl 3 rfl) k))) ?_
  refine rk_callV hX (cl_S (rest := []) C (ct_X1_requireSpan H a1 a2 a3) (lw_S q1406 q1407 q101 q1408) hd_X1_requireSpan ⟨(Nat.le_of_ble_eq_true rfl), (Nat.le_of_ble_eq_true rfl)⟩ rfl hl.1 rfl (zw_le zw_nil (Nat.le_of_ble_eq_true rfl)) dX1_roomFor_3) (fun _ => ?_)
  refine rk_of (fun _ _ _ _ _ k => lr_aload_n hx hb dX1_roomFor_6 rfl (lv_at hl 0 rfl) k) ?_
  refine rk_get zm_rdR_eq C (hc_X1 H) (k := 0) (Nat.le_of_ble_eq_true rfl) in_X1 q271 (fun _ h => h) dX1_roomFor_7 (fun v7 => ?_)
  refine rk_of (fun _ _ _ _ _ k => lv_iload_n hx hb dX1_roomFor_10 rfl (lv_at hl 1 rfl) k) ?_
  refine rk_new C (hc_X5 H) in_X5 tyX5_ok q1412 q808 q135 (fs := [.int 0, .int 0]) rfl (fun j hj => zdf_X5 j hj) dX1_roomFor_11 (fun v11 => ?_)
  refine rk_of (fun _ _ _ _ _ k => lv_dup hx hb dX1_roomFor_14 (va_rf_cat _) (lv_iload_n hx hb dX1_roomFor_15 rfl (lv_at hl 2 rfl) (lv_iload_n hx hb dX1_roomFor_16 rfl (lv_at hl 3 rfl) k))) ?_
  refine rk_callV hX (cl_I (rest := [va_rf (some v11), .int a1, va_rf v7]) C (ct_X5_init H (some v11) a2 a3) (lw_meth q820) q135 q1413 q819 rfl hd_X5_init ⟨(Nat.le_of_ble_eq_true rfl), (Nat.le_of_ble_eq_true rfl)⟩ rfl hl.1 rfl (zw_le (zw_R (zw_I (zw_R zw_nil))) (Nat.le_of_ble_eq_true rfl)) dX1_roomFor_17) (fun _ => ?_)
  refine rk_callI hX (cl_V (rest := []) (av := [.int a1, va_rf (some v11)]) C (hc_X2 H) (ct_X2_roomFor H v7 a1 (some v11)) (lw_V q1884 q1763 q1764 q102 q1765) ⟨rfl, hd_X2_roomFor⟩ ⟨(Nat.le_of_ble_eq_true rfl), (Nat.le_of_ble_eq_true rfl)⟩ rfl hl.1 rfl (zw_le zw_nil (Nat.le_of_ble_eq_true rfl)) dX1_roomFor_20) (fun v20 => ?_)
  refine rk_ofs (fun _ _ _ _ _ k => lr_istore hx hb dX1_roomFor_23 hl (Nat.le_of_ble_eq_true rfl) [] rfl trivial k) (fun ls hl => ?_)
  refine rk_of (fun _ _ _ _ _ k => lv_iload hx hb dX1_roomFor_25 (lv_at hl 0 rfl) (lv_iconst (v := (-1)) hx hb dX1_roomFor_27 rfl k)) ?_
  refine rk_join (β := Int32) (fun (b36 : Int32) ls => lv_has ls 5 [(4, .int v20)]) (fun (b36 : Int32) ls => F0 m 36 ls [.int b36]) (fun b36 ls hl => ?_) (fun hJ36 => ?_)
  · refine rk_callV hX (cl_S (rest := []) C (ct_X1_requireElement H b36) (lw_S q1717 q1718 q101 q1719) hd_X1_requireElement ⟨(Nat.le_of_ble_eq_true rfl), (Nat.le_of_ble_eq_true rfl)⟩ rfl hl.1 rfl (zw_le zw_nil (Nat.le_of_ble_eq_true rfl)) dX1_roomFor_36) (fun _ => ?_)
    refine rk_of (fun _ _ _ _ _ k => lv_iload hx hb dX1_roomFor_39 (lv_at hl 0 rfl) k) ?_
    exact rk_top (rf_iret C rfl dX1_roomFor_41)
  · refine rk_ite (fun _ _ _ _ _ k1 k2 => lv_icmp_eq (tgt := 35) hx hb dX1_roomFor_28 (by decide) k1 k2) (fun c_28 => ?_) (fun c_28 => ?_)
    · refine rk_of (fun _ _ _ _ _ k => lv_iconst (v := 0) hx hb dX1_roomFor_35 rfl k) ?_
      exact hJ36 0 ls (lv_sub hl [0] rfl)
    · refine rk_of (fun _ _ _ _ _ k => lv_iconst (v := 1) hx hb dX1_roomFor_31 rfl (lv_goto (tgt := 36) hx hb dX1_roomFor_32 (by decide) k)) ?_
      exact hJ36 1 ls (lv_sub hl [0] rfl)
theorem hd_X0_roomFor : yX0_roomFor.cls ≠ "java/lang/invoke/MethodHandle" ∧ yX0_roomFor.cls ≠ "java/lang/invoke/VarHandle" ∧ (parseMethodDescriptor yX0_roomFor.desc).map (fun d => d.parameters.length) = some 5 := by decide +kernel
noncomputable def fn_X0_roomFor (K : zm_K) (a0 : zm_R) (a1 : Int32) (a2 : Int32) (a3 : Int32) (a4 : zm_R) : zm_M Int32 :=
  zm_cth (zm_bnd (zm_is a0 18) fun _ => fn_X1_roomFor K a0 a1 a2 a3) (fun (E7 : String) (q7 : Nat) =>
      if E7 ∈ (["java/lang/IllegalArgumentException"] : List String) then
        zm_ret 1
      else
        if E7 ∈ (["java/util/NoSuchElementException"] : List String) then
          zm_ret 2
        else
          if E7 ∈ (["java/lang/IndexOutOfBoundsException", "java/lang/UnsupportedOperationException", "java/lang/ArrayIndexOutOfBoundsException", "java/lang/IllegalStateException", "java/lang/StringIndexOutOfBoundsException", "java/lang/ArithmeticException", "BoxSpans$Refusal", "BoxSpans$TextError"] : List String) then
            zm_thr E7 q7
          else
            zm_fl
    ) fun v7 =>
  zm_bnd (zm_astJ K a4 0 ((v7).toInt64)) fun _ =>
  zm_ret 0
theorem ct_X0_roomFor {l : Launch} {Ω : zm_W} {K : zm_K} (H : zm_H Ω K) (a0 : zm_R) (a1 : Int32) (a2 : Int32) (a3 : Int32) (a4 : zm_R) : zm_Ct l Ω yX0_roomFor (wsW_ yX0_roomFor cX0_roomFor 6 (Option.some Jvm.ClassFile.FieldType.int) [(0, 12, 15, 13), (0, 12, 19, 62)]) 14 348 [va_rf a0, .int a1, .int a2, .int a3, va_rf a4] zm_tvI (fn_X0_roomFor K a0 a1 a2 a3 a4) := by
  refine zm_ctW H.1 (by decide +kernel) (zl_le (zl_R (zl_I (zl_I (zl_I (zl_R zl_nil))))) (Nat.le_of_ble_eq_true rfl)) ?_
  intro p e R s m args below meth c n0 k0 C hN hT ls hl
  have hx := C.1
  have hb := C.2.1
  simp only [zg_I, zg_R, zg_nil] at hl
  have hl : lv_has ls 6 [(0, va_rf a0), (1, .int a1), (2, .int a2), (3, .int a3), (4, va_rf a4)] := hl
  refine rk_rf ?_
  unfold fn_X0_roomFor
  refine rk_of (fun _ _ _ _ _ k => lr_aload hx hb dX0_roomFor_0 (lv_at hl 4 rfl) (lv_iconst (v := 0) hx hb dX0_roomFor_2 rfl (lr_aload_n hx hb dX0_roomFor_3 rfl (lv_at hl 0 rfl) (lv_iload_n hx hb dX0_roomFor_4 rfl (lv_at hl 1 rfl) (lv_iload_n hx hb dX0_roomFor_5 rfl (lv_at hl 2 rfl) (lv_iload_n hx hb dX0_roomFor_6 rfl (lv_at hl 3 rfl) k)))))) ?_
  refine rk_cthI (cl_V (rest := [.int 0, va_rf a4]) (av := [.int a1, .int a2, .int a3]) C (hc_X1 H) (ct_X1_roomFor H a0 a1 a2 a3) (lw_V q1880 q1881 q1882 q101 q1883) ⟨rfl, hd_X1_roomFor⟩ ⟨(Nat.le_of_ble_eq_true rfl), (Nat.le_of_ble_eq_true rfl)⟩ rfl hl.1 rfl (zw_le (zw_I (zw_R zw_nil)) (Nat.le_of_ble_eq_true rfl)) dX0_roomFor_7) (fun E7 q7 => ?_) (fun v7 => ?_)
  · refine rx_ite (fun h7_0 => ?_) (fun h7_0 => ?_)
    · refine rx_cat (k := 0) C hT rfl zp_nil ⟨by decide, by decide⟩ (by decide) q1126 ((zp_cons (P := fun E => (Cond.castable E "java/lang/IllegalArgumentException").before args s = true) (zn_wC H C q597) zp_nil) E7 h7_0) ?_
      refine rk_ofs (fun _ _ _ _ _ k => lr_astore hx hb dX0_roomFor_15 hl (Nat.le_of_ble_eq_true rfl) [] rfl trivial k) (fun ls hl => ?_)
      refine rk_of (fun _ _ _ _ _ k => lv_iconst (v := 1) hx hb dX0_roomFor_17 rfl k) ?_
      exact rk_top (rf_iret C rfl dX0_roomFor_18)
    · refine rx_ite (fun h7_1 => ?_) (fun h7_1 => ?_)
      · refine rx_cat (k := 1) C hT rfl (zp_cons (Or.inr ⟨by decide, _, q1126, zh_ncs H C (L := ["java/util/NoSuchElementException"]) (by decide) h7_1⟩) zp_nil) ⟨by decide, by decide⟩ (by decide) q1697 ((zp_cons (P := fun E => (Cond.castable E "java/util/NoSuchElementException").before args s = true) (zn_wC H C q788) zp_nil) E7 h7_1) ?_
        refine rk_ofs (fun _ _ _ _ _ k => lr_astore hx hb dX0_roomFor_19 hl (Nat.le_of_ble_eq_true rfl) [] rfl trivial k) (fun ls hl => ?_)
        refine rk_of (fun _ _ _ _ _ k => lv_iconst (v := 2) hx hb dX0_roomFor_21 rfl k) ?_
        exact rk_top (rf_iret C rfl dX0_roomFor_22)
      · refine rx_ite (fun h7_x => ?_) (fun _ => rx_fl)
        exact rx_out C hT (zp_cons (Or.inr ⟨by decide, _, q1126, zh_ncs H C (L := ["java/lang/IndexOutOfBoundsException", "java/lang/UnsupportedOperationException", "java/lang/ArrayIndexOutOfBoundsException", "java/lang/IllegalStateException", "java/lang/StringIndexOutOfBoundsException", "java/lang/ArithmeticException", "BoxSpans$Refusal", "BoxSpans$TextError"]) (by decide) h7_x⟩) (zp_cons (Or.inr ⟨by decide, _, q1697, zh_ncs H C (L := ["java/lang/IndexOutOfBoundsException", "java/lang/UnsupportedOperationException", "java/lang/ArrayIndexOutOfBoundsException", "java/lang/IllegalStateException", "java/lang/StringIndexOutOfBoundsException", "java/lang/ArithmeticException", "BoxSpans$Refusal", "BoxSpans$TextError"]) (by decide) h7_x⟩) zp_nil))
  refine rk_of (fun _ _ _ _ _ k => lv_i2l hx hb dX0_roomFor_10 rfl k) ?_
  refine rk_last C H.2.2.1 dX0_roomFor_11 ?_
  refine rk_of (fun _ _ _ _ _ k => lv_goto (tgt := 23) hx hb dX0_roomFor_12 (by decide) (lv_iconst (v := 0) hx hb dX0_roomFor_23 rfl k)) ?_
  exact rk_top (rf_iret C rfl dX0_roomFor_24)
theorem hd_X1_counted : yX1_counted.cls ≠ "java/lang/invoke/MethodHandle" ∧ yX1_counted.cls ≠ "java/lang/invoke/VarHandle" ∧ (parseMethodDescriptor yX1_counted.desc).map (fun d => d.parameters.length) = some 3 := by decide +kernel
noncomputable def fn_X1_counted_5 (K : zm_K) (p0 : zm_R) (p1 : Int32) (p2 : Int32) : Nat → Int32 → Int32 → zm_M (Int32)
  | 0, _, _ => zm_fl
  | n + 1, x3, x4 =>
    if (p1 + p2) ≤ x4 then
      zm_ret x3
    else
      zm_bnd (fn_quest K p0 x4) fun v17 =>
      zm_bnd (α := Int32) (
          if v17 = 0 then
            zm_ret 0
          else
            zm_ret 1
        ) fun b30 =>
      fn_X1_counted_5 K p0 p1 p2 n (x3 + b30) (x4 + 1)
noncomputable def fn_X1_counted (K : zm_K) (a0 : zm_R) (a1 : Int32) (a2 : Int32) : zm_M Int32 :=
  zm_bnd (α := Int32) (fn_X1_counted_5 K a0 a1 a2 zm_N 0 a1) fun b38 =>
  zm_ret b38
theorem rf_X1_counted_5 (H : zm_H Ω K) (C : zm_C p l R s m args meth c Ω lw_all cX1_counted yX1_counted.cls yX1_counted.name 5 3 106 (Option.some Jvm.ClassFile.FieldType.int)) (hX : zm_XO p l e R s m args below meth c Ω n0 k0 (zm_QFs below args s Ω n0 k0 zm_tvI)) (p0 : zm_R) (p1 : Int32) (p2 : Int32) : ∀ (n : Nat) (x3 : Int32) (x4 : Int32) (J : (Int32) → zm_M Int32) (ls : Array Slot), lv_has ls 5 [(0, va_rf p0), (1, .int p1), (2, .int p2), (3, .int x3), (4, .int x4)] → (∀ (b : Int32) (ls : Array Slot), lv_has ls 5 [(3, .int b)] → zm_RK p l e R s m args below meth c Ω n0 k0 (zm_QFs below args s Ω n0 k0 zm_tvI) (zm_ret b) J (F0 m 38 ls [])) → zm_RK p l e R s m args below meth c Ω n0 k0 (zm_QFs below args s Ω n0 k0 zm_tvI) (fn_X1_counted_5 K p0 p1 p2 n x3 x4) J (F0 m 5 ls []) := by
  have hx := C.1
  have hb := C.2.1
  intro n
  induction n with
  | zero => intro x3 x4 J ls hl hJ; exact rk_fl
  | succ n ih =>
    intro x3 x4 J ls hl hJ
    unfold fn_X1_counted_5
    refine rk_ite (fun _ _ _ _ _ k1 k2 => lv_iload hx hb dX1_counted_5 (lv_at hl 4 rfl) (lv_iload_n hx hb dX1_counted_7 rfl (lv_at hl 1 rfl) (lv_iload_n hx hb dX1_counted_8 rfl (lv_at hl 2 rfl) (lv_iadd hx hb dX1_counted_9 (lv_icmp_ge (tgt := 38) hx hb dX1_counted_10 (by decide) k1 k2))))) (fun c_10 => ?_) (fun c_10 => ?_)
    · exact hJ x3 ls (lv_sub hl [3] rfl)
    · refine rk_of (fun _ _ _ _ _ k => lv_iload_n hx hb dX1_counted_13 rfl (lv_at hl 3 rfl) (lr_aload_n hx hb dX1_counted_14 rfl (lv_at hl 0 rfl) (lv_iload hx hb dX1_counted_15 (lv_at hl 4 rfl) k))) ?_
      refine rk_callI hX (cl_quest (rest := [.int x3]) H C q1899 (zn_wD H C q817) (zn_wI H C (by decide) q816 q817) ⟨(Nat.le_of_ble_eq_true rfl), (Nat.le_of_ble_eq_true rfl)⟩ hl.1 rfl (zw_le (zw_I zw_nil) (Nat.le_of_ble_eq_true rfl)) dX1_counted_17) (fun v17 => ?_)
      refine rk_join (β := Int32) (fun (b30 : Int32) ls => lv_has ls 5 [(0, va_rf p0), (1, .int p1), (2, .int p2), (4, .int x4)]) (fun (b30 : Int32) ls => F0 m 30 ls [.int b30, .int x3]) (fun b30 ls hl => ?_) (fun hJ30 => ?_)
      · refine rk_ofs (fun _ _ _ _ _ k => lv_iadd hx hb dX1_counted_30 (lr_istore_n hx hb dX1_counted_31 rfl hl (Nat.le_of_ble_eq_true rfl) [0, 1, 2, 3] rfl ⟨trivial, ⟨trivial, ⟨rfl, ⟨trivial, trivial⟩⟩⟩⟩ k)) (fun ls hl => ?_)
        refine rk_ofs (fun _ _ _ _ _ k => lr_iinc (v := x4 + 1) hx hb dX1_counted_32 hl (k := 4) rfl rfl (Nat.le_of_ble_eq_true rfl) [0, 1, 2, 3] rfl ⟨rfl, ⟨trivial, ⟨trivial, ⟨trivial, trivial⟩⟩⟩⟩ k) (fun ls hl => ?_)
        refine rk_of (fun _ _ _ _ _ k => lv_goto (tgt := 5) hx hb dX1_counted_35 (by decide) k) ?_
        exact ih (x3 + b30) (x4 + 1) J ls (lv_sub hl [2, 3, 4, 1, 0] rfl) hJ
      · refine rk_ite (fun _ _ _ _ _ k1 k2 => lv_if_eq (tgt := 29) hx hb dX1_counted_22 (by decide) k1 k2) (fun c_22 => ?_) (fun c_22 => ?_)
        · refine rk_of (fun _ _ _ _ _ k => lv_iconst (v := 0) hx hb dX1_counted_29 rfl k) ?_
          exact hJ30 0 ls (lv_sub hl [0, 1, 2, 4] rfl)
        · refine rk_of (fun _ _ _ _ _ k => lv_iconst (v := 1) hx hb dX1_counted_25 rfl (lv_goto (tgt := 30) hx hb dX1_counted_26 (by decide) k)) ?_
          exact hJ30 1 ls (lv_sub hl [0, 1, 2, 4] rfl)
theorem ct_X1_counted {l : Launch} {Ω : zm_W} {K : zm_K} (H : zm_H Ω K) (a0 : zm_R) (a1 : Int32) (a2 : Int32) : zm_Ct l Ω yX1_counted (ws_ yX1_counted cX1_counted 5 (Option.some Jvm.ClassFile.FieldType.int)) 3 106 [va_rf a0, .int a1, .int a2] zm_tvI (fn_X1_counted K a0 a1 a2) := by
  refine zm_ct H.1 (by decide +kernel) (zl_le (zl_R (zl_I (zl_I zl_nil))) (Nat.le_of_ble_eq_true rfl)) ?_
  intro p e R s m args below meth c n0 k0 C hX ls hl
  have hx := C.1
  have hb := C.2.1
  simp only [zg_I, zg_R, zg_nil] at hl
  have hl : lv_has ls 5 [(0, va_rf a0), (1, .int a1), (2, .int a2)] := hl
  refine rk_rf ?_
  unfold fn_X1_counted
  refine rk_ofs (fun _ _ _ _ _ k => lv_iconst (v := 0) hx hb dX1_counted_0 rfl (lr_istore_n hx hb dX1_counted_1 rfl hl (Nat.le_of_ble_eq_true rfl) [0, 1, 2] rfl ⟨trivial, ⟨trivial, ⟨rfl, trivial⟩⟩⟩ k)) (fun ls hl => ?_)
  refine rk_ofs (fun _ _ _ _ _ k => lv_iload_n hx hb dX1_counted_2 rfl (lv_at hl 2 rfl) (lr_istore hx hb dX1_counted_3 hl (Nat.le_of_ble_eq_true rfl) [0, 1, 2, 3] rfl ⟨rfl, ⟨trivial, ⟨trivial, ⟨trivial, trivial⟩⟩⟩⟩ k)) (fun ls hl => ?_)
  refine rk_join (β := Int32) (fun (b38 : Int32) ls => lv_has ls 5 [(3, .int b38)]) (fun (b38 : Int32) ls => F0 m 38 ls []) (fun b38 ls hl => ?_) (fun hJ38 => ?_)
  · refine rk_of (fun _ _ _ _ _ k => lv_iload_n hx hb dX1_counted_38 rfl (lv_at hl 0 rfl) k) ?_
    exact rk_top (rf_iret C rfl dX1_counted_39)
  · exact rf_X1_counted_5 H C hX a0 a1 a2 zm_N 0 a1 _ ls (lv_sub hl [2, 3, 4, 1, 0] rfl) hJ38
theorem hd_X1_hour : yX1_hour.cls ≠ "java/lang/invoke/MethodHandle" ∧ yX1_hour.cls ≠ "java/lang/invoke/VarHandle" ∧ (parseMethodDescriptor yX1_hour.desc).map (fun d => d.parameters.length) = some 2 := by decide +kernel
noncomputable def fn_X1_hour (K : zm_K) (a0 : zm_R) (a1 : Int32) (a2 : Int32) : zm_M Int32 :=
  zm_bnd (zm_bnd (zm_is a0 18) fun _ => fn_X1_requireBox K a0 a1) fun _ =>
  zm_bnd (fn_X1_isIn K a2 0 9) fun v9 =>
  zm_bnd (fn_X1_require K v9) fun _ =>
  zm_bnd (zm_getR a0 18 0) fun v16 =>
  zm_bnd (zm_bnd (zm_is v16 19) fun _ => fn_X2_lit K v16 a1) fun v20 =>
  zm_bnd (zm_new 111 [va_rf v20]) fun v25 =>
  zm_bnd (fn_X1_counted K (some v25) (60 * a2) 60) fun v36 =>
  zm_ret v36
theorem ct_X1_hour {l : Launch} {Ω : zm_W} {K : zm_K} (H : zm_H Ω K) (a0 : zm_R) (a1 : Int32) (a2 : Int32) : zm_Ct l Ω yX1_hour (ws_ yX1_hour cX1_hour 4 (Option.some Jvm.ClassFile.FieldType.int)) 18 3200 [va_rf a0, .int a1, .int a2] zm_tvI (fn_X1_hour K a0 a1 a2) := by
  refine zm_ctN H.1 (by decide +kernel) (zl_le (zl_R (zl_I (zl_I zl_nil))) (Nat.le_of_ble_eq_true rfl)) ?_
  intro p e R s m args below meth c n0 k0 C hX hN ls hl
  have hx := C.1
  have hb := C.2.1
  simp only [zg_I, zg_R, zg_nil] at hl
  have hl : lv_has ls 4 [(0, va_rf a0), (1, .int a1), (2, .int a2)] := hl
  refine rk_rf ?_
  unfold fn_X1_hour
  refine rk_of (fun _ _ _ _ _ k => lr_aload_n hx hb dX1_hour_0 rfl (lv_at hl 0 rfl) (lv_iload_n hx hb dX1_hour_1 rfl (lv_at hl 1 rfl) k)) ?_
  refine rk_callV hX (cl_V (rest := []) (av := [.int a1]) C (hc_X1 H) (ct_X1_requireBox H a0 a1) (lw_V q1393 q1395 qs15 q101 q1396) ⟨rfl, hd_X1_requireBox⟩ ⟨(Nat.le_of_ble_eq_true rfl), (Nat.le_of_ble_eq_true rfl)⟩ rfl hl.1 rfl (zw_le zw_nil (Nat.le_of_ble_eq_true rfl)) dX1_hour_2) (fun _ => ?_)
  refine rk_of (fun _ _ _ _ _ k => lv_iload_n hx hb dX1_hour_5 rfl (lv_at hl 2 rfl) (lv_iconst (v := 0) hx hb dX1_hour_6 rfl (lv_bipush (v := 9) hx hb dX1_hour_7 rfl k))) ?_
  refine rk_callI hX (cl_S (rest := []) C (ct_X1_isIn H a2 0 9) (lw_S q1132 q1133 q101 q1134) hd_X1_isIn ⟨(Nat.le_of_ble_eq_true rfl), (Nat.le_of_ble_eq_true rfl)⟩ rfl hl.1 rfl (zw_le zw_nil (Nat.le_of_ble_eq_true rfl)) dX1_hour_9) (fun v9 => ?_)
  refine rk_callV hX (cl_S (rest := []) C (ct_X1_require H v9) (lw_S q1135 q1136 q101 q1137) hd_X1_require ⟨(Nat.le_of_ble_eq_true rfl), (Nat.le_of_ble_eq_true rfl)⟩ rfl hl.1 rfl (zw_le zw_nil (Nat.le_of_ble_eq_true rfl)) dX1_hour_12) (fun _ => ?_)
  refine rk_of (fun _ _ _ _ _ k => lr_aload_n hx hb dX1_hour_15 rfl (lv_at hl 0 rfl) k) ?_
  refine rk_get zm_rdR_eq C (hc_X1 H) (k := 0) (Nat.le_of_ble_eq_true rfl) in_X1 q271 (fun _ h => h) dX1_hour_16 (fun v16 => ?_)
  refine rk_of (fun _ _ _ _ _ k => lv_iload_n hx hb dX1_hour_19 rfl (lv_at hl 1 rfl) k) ?_
  refine rk_callR hX (cl_V (rest := []) (av := [.int a1]) C (hc_X2 H) (ct_X2_lit H v16 a1) (lw_V q1892 q1789 q1790 q102 q1791) ⟨rfl, hd_X2_lit⟩ ⟨(Nat.le_of_ble_eq_true rfl), (Nat.le_of_ble_eq_true rfl)⟩ rfl hl.1 rfl (zw_le zw_nil (Nat.le_of_ble_eq_true rfl)) dX1_hour_20) (fun v20 => ?_)
  refine rk_ofs (fun _ _ _ _ _ k => lr_astore_n hx hb dX1_hour_23 rfl hl (Nat.le_of_ble_eq_true rfl) [2] rfl ⟨rfl, trivial⟩ k) (fun ls hl => ?_)
  refine rk_of (fun _ _ _ _ _ k => lr_aload_n hx hb dX1_hour_24 rfl (lv_at hl 0 rfl) k) ?_
  refine rk_lam H C hN (i := 11) rfl (by decide) zk_ok11 (zh_O H) (vals := [va_rf v20]) (rest := []) rfl (zk_cons (zn_R rfl _) zk_nil) (zf_cons (zp_R rfl _) zf_nil) hl.1 rfl (zw_ad (zw_R zw_nil) (Nat.le_of_ble_eq_true rfl)) dX1_hour_25 (fun v25 => ?_)
  refine rk_of (fun _ _ _ _ _ k => lv_bipush (v := 60) hx hb dX1_hour_30 rfl (lv_iload_n hx hb dX1_hour_32 rfl (lv_at hl 1 rfl) (lv_imul hx hb dX1_hour_33 (lv_bipush (v := 60) hx hb dX1_hour_34 rfl k)))) ?_
  refine rk_callI hX (cl_S (rest := []) C (ct_X1_counted H (some v25) (60 * a2) 60) (lw_S q1895 q1896 q101 q1897) hd_X1_counted ⟨(Nat.le_of_ble_eq_true rfl), (Nat.le_of_ble_eq_true rfl)⟩ rfl hl.1 rfl (zw_le zw_nil (Nat.le_of_ble_eq_true rfl)) dX1_hour_36) (fun v36 => ?_)
  exact rk_top (rf_iret C rfl dX1_hour_39)
theorem hd_X0_hour : yX0_hour.cls ≠ "java/lang/invoke/MethodHandle" ∧ yX0_hour.cls ≠ "java/lang/invoke/VarHandle" ∧ (parseMethodDescriptor yX0_hour.desc).map (fun d => d.parameters.length) = some 4 := by decide +kernel
noncomputable def fn_X0_hour (K : zm_K) (a0 : zm_R) (a1 : Int32) (a2 : Int32) (a3 : zm_R) : zm_M Int32 :=
  zm_cth (zm_bnd (zm_is a0 18) fun _ => fn_X1_hour K a0 a1 a2) (fun (E5 : String) (q5 : Nat) =>
      if E5 ∈ (["java/lang/IndexOutOfBoundsException", "java/lang/ArrayIndexOutOfBoundsException", "java/lang/StringIndexOutOfBoundsException"] : List String) then
        zm_ret 1
      else
        if E5 ∈ (["java/lang/IllegalArgumentException"] : List String) then
          zm_ret 2
        else
          if E5 ∈ (["java/util/NoSuchElementException", "java/lang/UnsupportedOperationException", "java/lang/IllegalStateException", "java/lang/ArithmeticException", "BoxSpans$Refusal", "BoxSpans$TextError"] : List String) then
            zm_thr E5 q5
          else
            zm_fl
    ) fun v5 =>
  zm_bnd (zm_astJ K a3 0 ((v5).toInt64)) fun _ =>
  zm_ret 0
theorem ct_X0_hour {l : Launch} {Ω : zm_W} {K : zm_K} (H : zm_H Ω K) (a0 : zm_R) (a1 : Int32) (a2 : Int32) (a3 : zm_R) : zm_Ct l Ω yX0_hour (wsW_ yX0_hour cX0_hour 5 (Option.some Jvm.ClassFile.FieldType.int) [(0, 10, 13, 21), (0, 10, 17, 13)]) 19 3223 [va_rf a0, .int a1, .int a2, va_rf a3] zm_tvI (fn_X0_hour K a0 a1 a2 a3) := by
  refine zm_ctW H.1 (by decide +kernel) (zl_le (zl_R (zl_I (zl_I (zl_R zl_nil)))) (Nat.le_of_ble_eq_true rfl)) ?_
  intro p e R s m args below meth c n0 k0 C hN hT ls hl
  have hx := C.1
  have hb := C.2.1
  simp only [zg_I, zg_R, zg_nil] at hl
  have hl : lv_has ls 5 [(0, va_rf a0), (1, .int a1), (2, .int a2), (3, va_rf a3)] := hl
  refine rk_rf ?_
  unfold fn_X0_hour
  refine rk_of (fun _ _ _ _ _ k => lr_aload_n hx hb dX0_hour_0 rfl (lv_at hl 3 rfl) (lv_iconst (v := 0) hx hb dX0_hour_1 rfl (lr_aload_n hx hb dX0_hour_2 rfl (lv_at hl 0 rfl) (lv_iload_n hx hb dX0_hour_3 rfl (lv_at hl 1 rfl) (lv_iload_n hx hb dX0_hour_4 rfl (lv_at hl 2 rfl) k))))) ?_
  refine rk_cthI (cl_V (rest := [.int 0, va_rf a3]) (av := [.int a1, .int a2]) C (hc_X1 H) (ct_X1_hour H a0 a1 a2) (lw_V q1888 q1889 q1890 q101 q1891) ⟨rfl, hd_X1_hour⟩ ⟨(Nat.le_of_ble_eq_true rfl), (Nat.le_of_ble_eq_true rfl)⟩ rfl hl.1 rfl (zw_le (zw_I (zw_R zw_nil)) (Nat.le_of_ble_eq_true rfl)) dX0_hour_5) (fun E5 q5 => ?_) (fun v5 => ?_)
  · refine rx_ite (fun h5_0 => ?_) (fun h5_0 => ?_)
    · refine rx_cat (k := 0) C hT rfl zp_nil ⟨by decide, by decide⟩ (by decide) q1373 ((zp_cons (P := fun E => (Cond.castable E "java/lang/IndexOutOfBoundsException").before args s = true) (zn_wC H C q360) (zp_cons (P := fun E => (Cond.castable E "java/lang/IndexOutOfBoundsException").before args s = true) (zn_wC H C q3093) (zp_cons (P := fun E => (Cond.castable E "java/lang/IndexOutOfBoundsException").before args s = true) (zn_wC H C q3094) zp_nil))) E5 h5_0) ?_
      refine rk_ofs (fun _ _ _ _ _ k => lr_astore hx hb dX0_hour_13 hl (Nat.le_of_ble_eq_true rfl) [] rfl trivial k) (fun ls hl => ?_)
      refine rk_of (fun _ _ _ _ _ k => lv_iconst (v := 1) hx hb dX0_hour_15 rfl k) ?_
      exact rk_top (rf_iret C rfl dX0_hour_16)
    · refine rx_ite (fun h5_1 => ?_) (fun h5_1 => ?_)
      · refine rx_cat (k := 1) C hT rfl (zp_cons (Or.inr ⟨by decide, _, q1373, zh_ncs H C (L := ["java/lang/IllegalArgumentException"]) (by decide) h5_1⟩) zp_nil) ⟨by decide, by decide⟩ (by decide) q1126 ((zp_cons (P := fun E => (Cond.castable E "java/lang/IllegalArgumentException").before args s = true) (zn_wC H C q597) zp_nil) E5 h5_1) ?_
        refine rk_ofs (fun _ _ _ _ _ k => lr_astore hx hb dX0_hour_17 hl (Nat.le_of_ble_eq_true rfl) [] rfl trivial k) (fun ls hl => ?_)
        refine rk_of (fun _ _ _ _ _ k => lv_iconst (v := 2) hx hb dX0_hour_19 rfl k) ?_
        exact rk_top (rf_iret C rfl dX0_hour_20)
      · refine rx_ite (fun h5_x => ?_) (fun _ => rx_fl)
        exact rx_out C hT (zp_cons (Or.inr ⟨by decide, _, q1373, zh_ncs H C (L := ["java/util/NoSuchElementException", "java/lang/UnsupportedOperationException", "java/lang/IllegalStateException", "java/lang/ArithmeticException", "BoxSpans$Refusal", "BoxSpans$TextError"]) (by decide) h5_x⟩) (zp_cons (Or.inr ⟨by decide, _, q1126, zh_ncs H C (L := ["java/util/NoSuchElementException", "java/lang/UnsupportedOperationException", "java/lang/IllegalStateException", "java/lang/ArithmeticException", "BoxSpans$Refusal", "BoxSpans$TextError"]) (by decide) h5_x⟩) zp_nil))
  refine rk_of (fun _ _ _ _ _ k => lv_i2l hx hb dX0_hour_8 rfl k) ?_
  refine rk_last C H.2.2.1 dX0_hour_9 ?_
  refine rk_of (fun _ _ _ _ _ k => lv_goto (tgt := 21) hx hb dX0_hour_10 (by decide) (lv_iconst (v := 0) hx hb dX0_hour_21 rfl k)) ?_
  exact rk_top (rf_iret C rfl dX0_hour_22)
theorem hd_X2_isAhead : yX2_isAhead.cls ≠ "java/lang/invoke/MethodHandle" ∧ yX2_isAhead.cls ≠ "java/lang/invoke/VarHandle" ∧ (parseMethodDescriptor yX2_isAhead.desc).map (fun d => d.parameters.length) = some 2 := by decide +kernel
noncomputable def fn_X2_isAhead (K : zm_K) (a0 : zm_R) (a1 : Int32) (a2 : Int32) : zm_M Int32 :=
  zm_bnd (zm_bnd (zm_is a0 19) fun _ => fn_X2_ofBox K a0 a1 1) fun v3 =>
  zm_bnd (zm_bnd (zm_is a0 19) fun _ => fn_X2_ofBox K a0 a2 1) fun v9 =>
  zm_bnd (α := Int32) (
      if (v3 - v9) = 0 then
        zm_bnd (zm_bnd (zm_is a0 19) fun _ => fn_X2_seats K a0 a2) fun v20 =>
        zm_bnd (zm_bnd (zm_is a0 19) fun _ => fn_X2_seats K a0 a1) fun v25 =>
        zm_ret (v20 - v25)
      else
        zm_ret (v3 - v9)
    ) fun b33 =>
  if 0 < b33 then
    zm_ret 1
  else
    if b33 = 0 then
      if a2 ≤ a1 then
        zm_ret 0
      else
        zm_ret 1
    else
      zm_ret 0
theorem ct_X2_isAhead {l : Launch} {Ω : zm_W} {K : zm_K} (H : zm_H Ω K) (a0 : zm_R) (a1 : Int32) (a2 : Int32) : zm_Ct l Ω yX2_isAhead (ws_ yX2_isAhead cX2_isAhead 4 (Option.some Jvm.ClassFile.FieldType.boolean)) 18 441 [va_rf a0, .int a1, .int a2] zm_tvI (fn_X2_isAhead K a0 a1 a2) := by
  refine zm_ct H.1 (by decide +kernel) (zl_le (zl_R (zl_I (zl_I zl_nil))) (Nat.le_of_ble_eq_true rfl)) ?_
  intro p e R s m args below meth c n0 k0 C hX ls hl
  have hx := C.1
  have hb := C.2.1
  simp only [zg_I, zg_R, zg_nil] at hl
  have hl : lv_has ls 4 [(0, va_rf a0), (1, .int a1), (2, .int a2)] := hl
  refine rk_rf ?_
  unfold fn_X2_isAhead
  refine rk_of (fun _ _ _ _ _ k => lr_aload_n hx hb dX2_isAhead_0 rfl (lv_at hl 0 rfl) (lv_iload_n hx hb dX2_isAhead_1 rfl (lv_at hl 1 rfl) (lv_iconst (v := 1) hx hb dX2_isAhead_2 rfl k))) ?_
  refine rk_callI hX (cl_V (rest := []) (av := [.int a1, .int 1]) C (hc_X2 H) (ct_X2_ofBox H a0 a1 1) (lw_V q1105 q1106 q1107 q102 q1108) ⟨rfl, hd_X2_ofBox⟩ ⟨(Nat.le_of_ble_eq_true rfl), (Nat.le_of_ble_eq_true rfl)⟩ rfl hl.1 rfl (zw_le zw_nil (Nat.le_of_ble_eq_true rfl)) dX2_isAhead_3) (fun v3 => ?_)
  refine rk_of (fun _ _ _ _ _ k => lr_aload_n hx hb dX2_isAhead_6 rfl (lv_at hl 0 rfl) (lv_iload_n hx hb dX2_isAhead_7 rfl (lv_at hl 2 rfl) (lv_iconst (v := 1) hx hb dX2_isAhead_8 rfl k))) ?_
  refine rk_callI hX (cl_V (rest := [.int v3]) (av := [.int a2, .int 1]) C (hc_X2 H) (ct_X2_ofBox H a0 a2 1) (lw_V q1105 q1106 q1107 q102 q1108) ⟨rfl, hd_X2_ofBox⟩ ⟨(Nat.le_of_ble_eq_true rfl), (Nat.le_of_ble_eq_true rfl)⟩ rfl hl.1 rfl (zw_le (zw_I zw_nil) (Nat.le_of_ble_eq_true rfl)) dX2_isAhead_9) (fun v9 => ?_)
  refine rk_ofs (fun _ _ _ _ _ k => lv_isub hx hb dX2_isAhead_12 (lr_istore_n hx hb dX2_isAhead_13 rfl hl (Nat.le_of_ble_eq_true rfl) [0, 1, 2] rfl ⟨trivial, ⟨trivial, ⟨rfl, trivial⟩⟩⟩ k)) (fun ls hl => ?_)
  refine rk_of (fun _ _ _ _ _ k => lv_iload_n hx hb dX2_isAhead_14 rfl (lv_at hl 0 rfl) k) ?_
  refine rk_join (β := Int32) (fun (b33 : Int32) ls => lv_has ls 4 [(1, .int a1), (2, .int a2)]) (fun (b33 : Int32) ls => F0 m 33 ls [.int b33]) (fun b33 ls hl => ?_) (fun hJ33 => ?_)
  · refine rk_ofs (fun _ _ _ _ _ k => lr_istore_n hx hb dX2_isAhead_33 rfl hl (Nat.le_of_ble_eq_true rfl) [0, 1] rfl ⟨trivial, ⟨rfl, trivial⟩⟩ k) (fun ls hl => ?_)
    refine rk_ite (fun _ _ _ _ _ k1 k2 => lv_iload_n hx hb dX2_isAhead_34 rfl (lv_at hl 0 rfl) (lv_if_gt (tgt := 47) hx hb dX2_isAhead_35 (by decide) k1 k2)) (fun c_35 => ?_) (fun c_35 => ?_)
    · refine rk_of (fun _ _ _ _ _ k => lv_iconst (v := 1) hx hb dX2_isAhead_47 rfl (lv_goto (tgt := 52) hx hb dX2_isAhead_48 (by decide) k)) ?_
      exact rk_top (rf_iret C rfl dX2_isAhead_52)
    · refine rk_ite (fun _ _ _ _ _ k1 k2 => lv_iload_n hx hb dX2_isAhead_38 rfl (lv_at hl 0 rfl) (lv_if_ne (tgt := 51) hx hb dX2_isAhead_39 (by decide) k2 k1)) (fun c_39 => ?_) (fun c_39 => ?_)
      · refine rk_ite (fun _ _ _ _ _ k1 k2 => lv_iload_n hx hb dX2_isAhead_42 rfl (lv_at hl 1 rfl) (lv_iload_n hx hb dX2_isAhead_43 rfl (lv_at hl 2 rfl) (lv_icmp_ge (tgt := 51) hx hb dX2_isAhead_44 (by decide) k1 k2))) (fun c_44 => ?_) (fun c_44 => ?_)
        · refine rk_of (fun _ _ _ _ _ k => lv_iconst (v := 0) hx hb dX2_isAhead_51 rfl k) ?_
          exact rk_top (rf_iret C rfl dX2_isAhead_52)
        · refine rk_of (fun _ _ _ _ _ k => lv_iconst (v := 1) hx hb dX2_isAhead_47 rfl (lv_goto (tgt := 52) hx hb dX2_isAhead_48 (by decide) k)) ?_
          exact rk_top (rf_iret C rfl dX2_isAhead_52)
      · refine rk_of (fun _ _ _ _ _ k => lv_iconst (v := 0) hx hb dX2_isAhead_51 rfl k) ?_
        exact rk_top (rf_iret C rfl dX2_isAhead_52)
  · refine rk_ite (fun _ _ _ _ _ k1 k2 => lv_if_ne (tgt := 32) hx hb dX2_isAhead_15 (by decide) k2 k1) (fun c_15 => ?_) (fun c_15 => ?_)
    · refine rk_of (fun _ _ _ _ _ k => lr_aload_n hx hb dX2_isAhead_18 rfl (lv_at hl 1 rfl) (lv_iload_n hx hb dX2_isAhead_19 rfl (lv_at hl 3 rfl) k)) ?_
      refine rk_callI hX (cl_V (rest := []) (av := [.int a2]) C (hc_X2 H) (ct_X2_seats H a0 a2) (lw_V q1420 q1421 q1422 q102 q1423) ⟨rfl, hd_X2_seats⟩ ⟨(Nat.le_of_ble_eq_true rfl), (Nat.le_of_ble_eq_true rfl)⟩ rfl hl.1 rfl (zw_le zw_nil (Nat.le_of_ble_eq_true rfl)) dX2_isAhead_20) (fun v20 => ?_)
      refine rk_of (fun _ _ _ _ _ k => lr_aload_n hx hb dX2_isAhead_23 rfl (lv_at hl 1 rfl) (lv_iload_n hx hb dX2_isAhead_24 rfl (lv_at hl 2 rfl) k)) ?_
      refine rk_callI hX (cl_V (rest := [.int v20]) (av := [.int a1]) C (hc_X2 H) (ct_X2_seats H a0 a1) (lw_V q1420 q1421 q1422 q102 q1423) ⟨rfl, hd_X2_seats⟩ ⟨(Nat.le_of_ble_eq_true rfl), (Nat.le_of_ble_eq_true rfl)⟩ rfl hl.1 rfl (zw_le (zw_I zw_nil) (Nat.le_of_ble_eq_true rfl)) dX2_isAhead_25) (fun v25 => ?_)
      refine rk_of (fun _ _ _ _ _ k => lv_isub hx hb dX2_isAhead_28 (lv_goto (tgt := 33) hx hb dX2_isAhead_29 (by decide) k)) ?_
      exact hJ33 (v20 - v25) ls (lv_sub hl [2, 3] rfl)
    · refine rk_of (fun _ _ _ _ _ k => lv_iload_n hx hb dX2_isAhead_32 rfl (lv_at hl 0 rfl) k) ?_
      exact hJ33 (v3 - v9) ls (lv_sub hl [2, 3] rfl)
theorem hd_X2_ranked : yX2_ranked.cls ≠ "java/lang/invoke/MethodHandle" ∧ yX2_ranked.cls ≠ "java/lang/invoke/VarHandle" ∧ (parseMethodDescriptor yX2_ranked.desc).map (fun d => d.parameters.length) = some 0 := by decide +kernel
noncomputable def fn_X2_ranked_26 (K : zm_K) (p0 : zm_R) (p1 : zm_R) (p2 : Int32) (p4 : zm_R) : Nat → Int32 → zm_M (Int32)
  | 0, _ => zm_fl
  | n + 1, x3 =>
    zm_bnd (zm_bnd (zm_cls p4) fun ci => if ci = 26 then fn_X10_hasNext K p4 else if ci = 9 then fn_J22_hasNext K p4 else if ci = 11 then fn_J25_hasNext K p4 else zm_fl) fun v28 =>
    if v28 = 0 then
      zm_ret x3
    else
      zm_bnd (zm_bnd (zm_cls p4) fun ci => if ci = 26 then fn_X10_next K p4 else if ci = 9 then fn_J22_next K p4 else if ci = 11 then fn_J25_next K p4 else zm_fl) fun v38 =>
      zm_bnd (zm_chk [6] [] v38) fun _ =>
      zm_bnd (zm_bnd (zm_is v38 6) fun _ => fn_J14_intValue K v38) fun v46 =>
      zm_bnd (zm_bnd (zm_is p0 19) fun _ => fn_X2_isAhead K p0 v46 p2) fun v56 =>
      zm_bnd (α := Int32) (
          if v56 = 0 then
            zm_ret 0
          else
            zm_ret 1
        ) fun b67 =>
      fn_X2_ranked_26 K p0 p1 p2 p4 n (x3 + b67)
noncomputable def fn_X2_ranked_10 (K : zm_K) (p0 : zm_R) (p1 : zm_R) : Nat → Int32 → zm_M (Unit)
  | 0, _ => zm_fl
  | n + 1, x2 =>
    zm_bnd (zm_bnd (zm_is p0 19) fun _ => fn_X2_boxes K p0) fun v12 =>
    if v12 ≤ x2 then
      zm_ret ()
    else
      zm_bnd (zm_bnd (zm_is p1 1) fun _ => fn_J3_iterator K p1) fun v21 =>
      zm_bnd (α := Int32) (fn_X2_ranked_26 K p0 p1 x2 v21 zm_N 0) fun b72 =>
      zm_bnd (fn_J14_valueOf K x2) fun v75 =>
      zm_bnd (zm_bnd (zm_is p1 1) fun _ => fn_J4_add_2 K p1 b72 v75) fun _ =>
      fn_X2_ranked_10 K p0 p1 n (x2 + 1)
noncomputable def fn_X2_ranked (K : zm_K) (a0 : zm_R) : zm_M zm_R :=
  zm_bnd (zm_new 1 [.int 0, .int 0, .null, .null]) fun v0 =>
  zm_bnd (fn_J4_init K (some v0)) fun _ =>
  zm_bnd (α := Unit) (fn_X2_ranked_10 K a0 (some v0) zm_N 0) fun (_ : Unit) =>
  zm_ret (some v0)
theorem rf_X2_ranked_26 (H : zm_H Ω K) (C : zm_C p l R s m args meth c Ω lw_all cX2_ranked yX2_ranked.cls yX2_ranked.name 6 19 464 (Option.some (Jvm.ClassFile.FieldType.object "java/util/List"))) (hX : zm_XO p l e R s m args below meth c Ω n0 k0 (zm_QFs below args s Ω n0 k0 zm_tvR)) (p0 : zm_R) (p1 : zm_R) (p2 : Int32) (p4 : zm_R) : ∀ (n : Nat) (x3 : Int32) (J : (Int32) → zm_M zm_R) (ls : Array Slot), lv_has ls 6 [(0, va_rf p0), (1, va_rf p1), (2, .int p2), (4, va_rf p4), (3, .int x3)] → (∀ (b : Int32) (ls : Array Slot), lv_has ls 6 [(0, va_rf p0), (1, va_rf p1), (2, .int p2), (3, .int b)] → zm_RK p l e R s m args below meth c Ω n0 k0 (zm_QFs below args s Ω n0 k0 zm_tvR) (zm_ret b) J (F0 m 72 ls [])) → zm_RK p l e R s m args below meth c Ω n0 k0 (zm_QFs below args s Ω n0 k0 zm_tvR) (fn_X2_ranked_26 K p0 p1 p2 p4 n x3) J (F0 m 26 ls []) := by
  have hx := C.1
  have hb := C.2.1
  intro n
  induction n with
  | zero => intro x3 J ls hl hJ; exact rk_fl
  | succ n ih =>
    intro x3 J ls hl hJ
    unfold fn_X2_ranked_26
    refine rk_of (fun _ _ _ _ _ k => lr_aload hx hb dX2_ranked_26 (lv_at hl 3 rfl) k) ?_
    refine rk_callI hX (cl_dsp (fun ci => cl_case (cl_F (n := 0) (rest := []) (av := []) C (hc_X10 H) (ct_X10_hasNext H p4) (lw_F q733 q737 q739 q143 q741) (zh_Fw H C (by decide) q735 q734 q740 q738 q736) (by decide +kernel) ⟨(Nat.le_of_ble_eq_true rfl), (Nat.le_of_ble_eq_true rfl)⟩ rfl hl.1 rfl (zw_le zw_nil (Nat.le_of_ble_eq_true rfl)) dX2_ranked_28) (cl_case (cl_F (n := 0) (rest := []) (av := []) C (hc_J22 H) (ct_J22_hasNext H p4) (lw_F q733 q758 q760 q129 q762) (zh_Fw H C (by decide) q735 q734 q761 q759 q757) (by decide +kernel) ⟨(Nat.le_of_ble_eq_true rfl), (Nat.le_of_ble_eq_true rfl)⟩ rfl hl.1 rfl (zw_le zw_nil (Nat.le_of_ble_eq_true rfl)) dX2_ranked_28) (cl_case (cl_F (n := 0) (rest := []) (av := []) C (hc_J25 H) (ct_J25_hasNext H p4) (lw_F q733 q767 q769 q133 q771) (zh_Fw H C (by decide) q735 q734 q770 q768 q766) (by decide +kernel) ⟨(Nat.le_of_ble_eq_true rfl), (Nat.le_of_ble_eq_true rfl)⟩ rfl hl.1 rfl (zw_le zw_nil (Nat.le_of_ble_eq_true rfl)) dX2_ranked_28) (cl_fl))))) (fun v28 => ?_)
    refine rk_ite (fun _ _ _ _ _ k1 k2 => lv_if_eq (tgt := 72) hx hb dX2_ranked_33 (by decide) k1 k2) (fun c_33 => ?_) (fun c_33 => ?_)
    · exact hJ x3 ls (lv_sub hl [0, 1, 2, 4] rfl)
    · refine rk_of (fun _ _ _ _ _ k => lr_aload hx hb dX2_ranked_36 (lv_at hl 3 rfl) k) ?_
      refine rk_callR hX (cl_dsp (fun ci => cl_case (cl_F (n := 0) (rest := []) (av := []) C (hc_X10 H) (ct_X10_next H p4) (lw_F q773 q776 q778 q143 q780) (zh_Fw H C (by decide) q775 q774 q779 q777 q736) (by decide +kernel) ⟨(Nat.le_of_ble_eq_true rfl), (Nat.le_of_ble_eq_true rfl)⟩ rfl hl.1 rfl (zw_le zw_nil (Nat.le_of_ble_eq_true rfl)) dX2_ranked_38) (cl_case (cl_F (n := 0) (rest := []) (av := []) C (hc_J22 H) (ct_J22_next H p4) (lw_F q773 q966 q968 q129 q970) (zh_Fw H C (by decide) q775 q774 q969 q967 q757) (by decide +kernel) ⟨(Nat.le_of_ble_eq_true rfl), (Nat.le_of_ble_eq_true rfl)⟩ rfl hl.1 rfl (zw_le zw_nil (Nat.le_of_ble_eq_true rfl)) dX2_ranked_38) (cl_case (cl_F (n := 0) (rest := []) (av := []) C (hc_J25 H) (ct_J25_next H p4) (lw_F q773 q981 q983 q133 q985) (zh_Fw H C (by decide) q775 q774 q984 q982 q766) (by decide +kernel) ⟨(Nat.le_of_ble_eq_true rfl), (Nat.le_of_ble_eq_true rfl)⟩ rfl hl.1 rfl (zw_le zw_nil (Nat.le_of_ble_eq_true rfl)) dX2_ranked_38) (cl_fl))))) (fun v38 => ?_)
      refine rk_chk C q1424 (zc_cons (zc_s (hc_J14 H)) zc_nil) zp_nil dX2_ranked_43 ?_
      refine rk_callI hX (cl_V (rest := []) (av := []) C (hc_J14 H) (ct_J14_intValue H v38) (lw_V q1425 q1426 q1427 q119 q1428) ⟨rfl, hd_J14_intValue⟩ ⟨(Nat.le_of_ble_eq_true rfl), (Nat.le_of_ble_eq_true rfl)⟩ rfl hl.1 rfl (zw_le zw_nil (Nat.le_of_ble_eq_true rfl)) dX2_ranked_46) (fun v46 => ?_)
      refine rk_ofs (fun _ _ _ _ _ k => lr_istore hx hb dX2_ranked_49 hl (Nat.le_of_ble_eq_true rfl) [0, 1, 2, 3, 4] rfl ⟨trivial, ⟨trivial, ⟨trivial, ⟨(by first | exact va_rf_cat _ | rfl), ⟨trivial, trivial⟩⟩⟩⟩⟩ k) (fun ls hl => ?_)
      refine rk_of (fun _ _ _ _ _ k => lv_iload_n hx hb dX2_ranked_51 rfl (lv_at hl 5 rfl) (lr_aload_n hx hb dX2_ranked_52 rfl (lv_at hl 1 rfl) (lv_iload hx hb dX2_ranked_53 (lv_at hl 0 rfl) (lv_iload_n hx hb dX2_ranked_55 rfl (lv_at hl 3 rfl) k)))) ?_
      refine rk_callI hX (cl_V (rest := [.int x3]) (av := [.int v46, .int p2]) C (hc_X2 H) (ct_X2_isAhead H p0 v46 p2) (lw_V q1911 q1913 qs24 q102 q1914) ⟨rfl, hd_X2_isAhead⟩ ⟨(Nat.le_of_ble_eq_true rfl), (Nat.le_of_ble_eq_true rfl)⟩ rfl hl.1 rfl (zw_le (zw_I zw_nil) (Nat.le_of_ble_eq_true rfl)) dX2_ranked_56) (fun v56 => ?_)
      refine rk_join (β := Int32) (fun (b67 : Int32) ls => lv_has ls 6 [(0, va_rf p0), (1, va_rf p1), (2, .int p2), (4, va_rf p4)]) (fun (b67 : Int32) ls => F0 m 67 ls [.int b67, .int x3]) (fun b67 ls hl => ?_) (fun hJ67 => ?_)
      · refine rk_ofs (fun _ _ _ _ _ k => lv_iadd hx hb dX2_ranked_67 (lr_istore_n hx hb dX2_ranked_68 rfl hl (Nat.le_of_ble_eq_true rfl) [0, 1, 2, 3] rfl ⟨trivial, ⟨trivial, ⟨rfl, ⟨trivial, trivial⟩⟩⟩⟩ k)) (fun ls hl => ?_)
        refine rk_of (fun _ _ _ _ _ k => lv_goto (tgt := 26) hx hb dX2_ranked_69 (by decide) k) ?_
        exact ih (x3 + b67) J ls (lv_sub hl [1, 2, 3, 4, 0] rfl) hJ
      · refine rk_ite (fun _ _ _ _ _ k1 k2 => lv_if_eq (tgt := 66) hx hb dX2_ranked_59 (by decide) k1 k2) (fun c_59 => ?_) (fun c_59 => ?_)
        · refine rk_of (fun _ _ _ _ _ k => lv_iconst (v := 0) hx hb dX2_ranked_66 rfl k) ?_
          exact hJ67 0 ls (lv_sub hl [1, 2, 3, 4] rfl)
        · refine rk_of (fun _ _ _ _ _ k => lv_iconst (v := 1) hx hb dX2_ranked_62 rfl (lv_goto (tgt := 67) hx hb dX2_ranked_63 (by decide) k)) ?_
          exact hJ67 1 ls (lv_sub hl [1, 2, 3, 4] rfl)
theorem rf_X2_ranked_10 (H : zm_H Ω K) (C : zm_C p l R s m args meth c Ω lw_all cX2_ranked yX2_ranked.cls yX2_ranked.name 6 19 464 (Option.some (Jvm.ClassFile.FieldType.object "java/util/List"))) (hX : zm_XO p l e R s m args below meth c Ω n0 k0 (zm_QFs below args s Ω n0 k0 zm_tvR)) (p0 : zm_R) (p1 : zm_R) : ∀ (n : Nat) (x2 : Int32) (J : (Unit) → zm_M zm_R) (ls : Array Slot), lv_has ls 6 [(0, va_rf p0), (1, va_rf p1), (2, .int x2)] → (∀ (b : Unit) (ls : Array Slot), lv_has ls 6 [(1, va_rf p1)] → zm_RK p l e R s m args below meth c Ω n0 k0 (zm_QFs below args s Ω n0 k0 zm_tvR) (zm_ret b) J (F0 m 87 ls [])) → zm_RK p l e R s m args below meth c Ω n0 k0 (zm_QFs below args s Ω n0 k0 zm_tvR) (fn_X2_ranked_10 K p0 p1 n x2) J (F0 m 10 ls []) := by
  have hx := C.1
  have hb := C.2.1
  intro n
  induction n with
  | zero => intro x2 J ls hl hJ; exact rk_fl
  | succ n ih =>
    intro x2 J ls hl hJ
    unfold fn_X2_ranked_10
    refine rk_of (fun _ _ _ _ _ k => lv_iload_n hx hb dX2_ranked_10 rfl (lv_at hl 2 rfl) (lr_aload_n hx hb dX2_ranked_11 rfl (lv_at hl 0 rfl) k)) ?_
    refine rk_callI hX (cl_V (rest := [.int x2]) (av := []) C (hc_X2 H) (ct_X2_boxes H p0) (lw_V q1086 q1087 q1088 q102 q1089) ⟨rfl, hd_X2_boxes⟩ ⟨(Nat.le_of_ble_eq_true rfl), (Nat.le_of_ble_eq_true rfl)⟩ rfl hl.1 rfl (zw_le (zw_I zw_nil) (Nat.le_of_ble_eq_true rfl)) dX2_ranked_12) (fun v12 => ?_)
    refine rk_ite (fun _ _ _ _ _ k1 k2 => lv_icmp_ge (tgt := 87) hx hb dX2_ranked_15 (by decide) k1 k2) (fun c_15 => ?_) (fun c_15 => ?_)
    · exact hJ () ls (lv_sub hl [1] rfl)
    · refine rk_ofs (fun _ _ _ _ _ k => lv_iconst (v := 0) hx hb dX2_ranked_18 rfl (lr_istore_n hx hb dX2_ranked_19 rfl hl (Nat.le_of_ble_eq_true rfl) [0, 1, 2] rfl ⟨trivial, ⟨trivial, ⟨rfl, trivial⟩⟩⟩ k)) (fun ls hl => ?_)
      refine rk_of (fun _ _ _ _ _ k => lr_aload_n hx hb dX2_ranked_20 rfl (lv_at hl 2 rfl) k) ?_
      refine rk_callR hX (cl_U (n := 0) (rest := []) (av := []) C (hc_J4 H) (ct_J3_iterator H p1) (lw_meth q341) q106 q1743 (C.2.2.2.1 _ q1744) (va_Decl.of (C.2.2.2.1 _ q339) (C.2.2.2.1 _ q341)) (C.2.2.2.1 _ q1746) q339 (by decide +kernel) ⟨(Nat.le_of_ble_eq_true rfl), (Nat.le_of_ble_eq_true rfl)⟩ rfl hl.1 rfl (zw_le zw_nil (Nat.le_of_ble_eq_true rfl)) dX2_ranked_21) (fun v21 => ?_)
      refine rk_ofs (fun _ _ _ _ _ k => lr_astore hx hb dX2_ranked_24 hl (Nat.le_of_ble_eq_true rfl) [0, 1, 2, 3] rfl ⟨rfl, ⟨trivial, ⟨trivial, ⟨trivial, trivial⟩⟩⟩⟩ k) (fun ls hl => ?_)
      refine rk_join (β := Int32) (fun (b72 : Int32) ls => lv_has ls 6 [(0, va_rf p0), (1, va_rf p1), (2, .int x2), (3, .int b72)]) (fun (b72 : Int32) ls => F0 m 72 ls []) (fun b72 ls hl => ?_) (fun hJ72 => ?_)
      · refine rk_of (fun _ _ _ _ _ k => lr_aload_n hx hb dX2_ranked_72 rfl (lv_at hl 1 rfl) (lv_iload_n hx hb dX2_ranked_73 rfl (lv_at hl 3 rfl) (lv_iload_n hx hb dX2_ranked_74 rfl (lv_at hl 2 rfl) k))) ?_
        refine rk_callR hX (cl_S (rest := [.int b72, va_rf p1]) C (ct_J14_valueOf H x2) (lw_S q1178 q1179 q119 q1180) hd_J14_valueOf ⟨(Nat.le_of_ble_eq_true rfl), (Nat.le_of_ble_eq_true rfl)⟩ rfl hl.1 rfl (zw_le (zw_I (zw_R zw_nil)) (Nat.le_of_ble_eq_true rfl)) dX2_ranked_75) (fun v75 => ?_)
        refine rk_callV hX (cl_V (rest := []) (av := [.int b72, va_rf v75]) C (hc_J4 H) (ct_J4_add_2 H p1 b72 v75) (lw_V q1753 q1754 q1755 q107 q1756) ⟨rfl, hd_J4_add_2⟩ ⟨(Nat.le_of_ble_eq_true rfl), (Nat.le_of_ble_eq_true rfl)⟩ rfl hl.1 rfl (zw_le zw_nil (Nat.le_of_ble_eq_true rfl)) dX2_ranked_78) (fun _ => ?_)
        refine rk_ofs (fun _ _ _ _ _ k => lr_iinc (v := x2 + 1) hx hb dX2_ranked_81 hl (k := 2) rfl rfl (Nat.le_of_ble_eq_true rfl) [0, 1] rfl ⟨trivial, ⟨(by first | exact va_rf_cat _ | rfl), trivial⟩⟩ k) (fun ls hl => ?_)
        refine rk_of (fun _ _ _ _ _ k => lv_goto (tgt := 10) hx hb dX2_ranked_84 (by decide) k) ?_
        exact ih (x2 + 1) J ls (lv_sub hl [1, 2, 0] rfl) hJ
      · exact rf_X2_ranked_26 H C hX p0 p1 x2 v21 zm_N 0 _ ls (lv_sub hl [2, 3, 4, 0, 1] rfl) hJ72
theorem ct_X2_ranked {l : Launch} {Ω : zm_W} {K : zm_K} (H : zm_H Ω K) (a0 : zm_R) : zm_Ct l Ω yX2_ranked (ws_ yX2_ranked cX2_ranked 6 (Option.some (Jvm.ClassFile.FieldType.object "java/util/List"))) 19 464 [va_rf a0] zm_tvR (fn_X2_ranked K a0) := by
  refine zm_ct H.1 (by decide +kernel) (zl_le (zl_R zl_nil) (Nat.le_of_ble_eq_true rfl)) ?_
  intro p e R s m args below meth c n0 k0 C hX ls hl
  have hx := C.1
  have hb := C.2.1
  simp only [zg_R, zg_nil] at hl
  have hl : lv_has ls 6 [(0, va_rf a0)] := hl
  refine rk_rf ?_
  unfold fn_X2_ranked
  refine rk_new C (hc_J4 H) in_J4 tyJ4_ok q1741 q217 q107 (fs := [.int 0, .int 0, .null, .null]) rfl (fun j hj => zdf_J4 j hj) dX2_ranked_0 (fun v0 => ?_)
  refine rk_of (fun _ _ _ _ _ k => lv_dup hx hb dX2_ranked_3 (va_rf_cat _) k) ?_
  refine rk_callV hX (cl_I (rest := [va_rf (some v0)]) C (ct_J4_init H (some v0)) (lw_meth q220) q107 q1742 q219 rfl hd_J4_init ⟨(Nat.le_of_ble_eq_true rfl), (Nat.le_of_ble_eq_true rfl)⟩ rfl hl.1 rfl (zw_le (zw_R zw_nil) (Nat.le_of_ble_eq_true rfl)) dX2_ranked_4) (fun _ => ?_)
  refine rk_ofs (fun _ _ _ _ _ k => lr_astore_n hx hb dX2_ranked_7 rfl hl (Nat.le_of_ble_eq_true rfl) [0] rfl ⟨(by first | exact va_rf_cat _ | rfl), trivial⟩ k) (fun ls hl => ?_)
  refine rk_ofs (fun _ _ _ _ _ k => lv_iconst (v := 0) hx hb dX2_ranked_8 rfl (lr_istore_n hx hb dX2_ranked_9 rfl hl (Nat.le_of_ble_eq_true rfl) [0, 1] rfl ⟨(by first | exact va_rf_cat _ | rfl), ⟨trivial, trivial⟩⟩ k)) (fun ls hl => ?_)
  refine rk_join (β := Unit) (fun (b87 : Unit) ls => lv_has ls 6 [(1, va_rf (some v0))]) (fun (b87 : Unit) ls => F0 m 87 ls []) (fun b87 ls hl => ?_) (fun hJ87 => ?_)
  · refine rk_of (fun _ _ _ _ _ k => lr_aload_n hx hb dX2_ranked_87 rfl (lv_at hl 0 rfl) k) ?_
    exact rk_top (rf_aret C (Or.inl ⟨_, rfl⟩) dX2_ranked_88)
  · exact rf_X2_ranked_10 H C hX a0 (some v0) zm_N 0 _ ls (lv_sub hl [2, 1, 0] rfl) hJ87
theorem hd_X1_ranked : yX1_ranked.cls ≠ "java/lang/invoke/MethodHandle" ∧ yX1_ranked.cls ≠ "java/lang/invoke/VarHandle" ∧ (parseMethodDescriptor yX1_ranked.desc).map (fun d => d.parameters.length) = some 1 := by decide +kernel
noncomputable def fn_X1_ranked (K : zm_K) (a0 : zm_R) (a1 : Int32) : zm_M Int32 :=
  zm_bnd (zm_getR a0 18 0) fun v1 =>
  zm_bnd (zm_bnd (zm_is v1 19) fun _ => fn_X2_ranked K v1) fun v4 =>
  zm_bnd (zm_bnd (zm_cls v4) fun ci => if ci = 0 then fn_J2_size K v4 else if ci = 1 then fn_J4_size K v4 else zm_fl) fun v11 =>
  zm_bnd (fn_X1_isIn K a1 0 (v11 - 1)) fun v18 =>
  zm_bnd (fn_X1_requireElement K v18) fun _ =>
  zm_bnd (zm_bnd (zm_cls v4) fun ci => if ci = 0 then fn_J2_get K v4 a1 else if ci = 1 then fn_J4_get K v4 a1 else zm_fl) fun v26 =>
  zm_bnd (zm_chk [6] [] v26) fun _ =>
  zm_bnd (zm_bnd (zm_is v26 6) fun _ => fn_J14_intValue K v26) fun v34 =>
  zm_ret v34
theorem ct_X1_ranked {l : Launch} {Ω : zm_W} {K : zm_K} (H : zm_H Ω K) (a0 : zm_R) (a1 : Int32) : zm_Ct l Ω yX1_ranked (ws_ yX1_ranked cX1_ranked 3 (Option.some Jvm.ClassFile.FieldType.int)) 20 489 [va_rf a0, .int a1] zm_tvI (fn_X1_ranked K a0 a1) := by
  refine zm_ct H.1 (by decide +kernel) (zl_le (zl_R (zl_I zl_nil)) (Nat.le_of_ble_eq_true rfl)) ?_
  intro p e R s m args below meth c n0 k0 C hX ls hl
  have hx := C.1
  have hb := C.2.1
  simp only [zg_I, zg_R, zg_nil] at hl
  have hl : lv_has ls 3 [(0, va_rf a0), (1, .int a1)] := hl
  refine rk_rf ?_
  unfold fn_X1_ranked
  refine rk_of (fun _ _ _ _ _ k => lr_aload_n hx hb dX1_ranked_0 rfl (lv_at hl 0 rfl) k) ?_
  refine rk_get zm_rdR_eq C (hc_X1 H) (k := 0) (Nat.le_of_ble_eq_true rfl) in_X1 q271 (fun _ h => h) dX1_ranked_1 (fun v1 => ?_)
  refine rk_callR hX (cl_V (rest := []) (av := []) C (hc_X2 H) (ct_X2_ranked H v1) (lw_V q1907 q1908 q1909 q102 q1910) ⟨rfl, hd_X2_ranked⟩ ⟨(Nat.le_of_ble_eq_true rfl), (Nat.le_of_ble_eq_true rfl)⟩ rfl hl.1 rfl (zw_le zw_nil (Nat.le_of_ble_eq_true rfl)) dX1_ranked_4) (fun v4 => ?_)
  refine rk_ofs (fun _ _ _ _ _ k => lr_astore_n hx hb dX1_ranked_7 rfl hl (Nat.le_of_ble_eq_true rfl) [1] rfl ⟨rfl, trivial⟩ k) (fun ls hl => ?_)
  refine rk_of (fun _ _ _ _ _ k => lv_iload_n hx hb dX1_ranked_8 rfl (lv_at hl 1 rfl) (lv_iconst (v := 0) hx hb dX1_ranked_9 rfl (lr_aload_n hx hb dX1_ranked_10 rfl (lv_at hl 0 rfl) k))) ?_
  refine rk_callI hX (cl_dsp (fun ci => cl_case (cl_F (n := 0) (rest := [.int 0, .int a1]) (av := []) C (hc_J2 H) (ct_J2_size H v4) (lw_F q1462 q1057 q752 q105 q753) (zh_Fw H C (by decide) q1056 q1055 q1059 q1058 q309) (by decide +kernel) ⟨(Nat.le_of_ble_eq_true rfl), (Nat.le_of_ble_eq_true rfl)⟩ rfl hl.1 rfl (zw_le (zw_I (zw_I zw_nil)) (Nat.le_of_ble_eq_true rfl)) dX1_ranked_11) (cl_case (cl_F (n := 0) (rest := [.int 0, .int a1]) (av := []) C (hc_J4 H) (ct_J4_size H v4) (lw_F q1462 q1060 q755 q107 q756) (zh_Fw H C (by decide) q1056 q1055 q1062 q1061 q336) (by decide +kernel) ⟨(Nat.le_of_ble_eq_true rfl), (Nat.le_of_ble_eq_true rfl)⟩ rfl hl.1 rfl (zw_le (zw_I (zw_I zw_nil)) (Nat.le_of_ble_eq_true rfl)) dX1_ranked_11) (cl_fl)))) (fun v11 => ?_)
  refine rk_of (fun _ _ _ _ _ k => lv_iconst (v := 1) hx hb dX1_ranked_16 rfl (lv_isub hx hb dX1_ranked_17 k)) ?_
  refine rk_callI hX (cl_S (rest := []) C (ct_X1_isIn H a1 0 (v11 - 1)) (lw_S q1132 q1133 q101 q1134) hd_X1_isIn ⟨(Nat.le_of_ble_eq_true rfl), (Nat.le_of_ble_eq_true rfl)⟩ rfl hl.1 rfl (zw_le zw_nil (Nat.le_of_ble_eq_true rfl)) dX1_ranked_18) (fun v18 => ?_)
  refine rk_callV hX (cl_S (rest := []) C (ct_X1_requireElement H v18) (lw_S q1717 q1718 q101 q1719) hd_X1_requireElement ⟨(Nat.le_of_ble_eq_true rfl), (Nat.le_of_ble_eq_true rfl)⟩ rfl hl.1 rfl (zw_le zw_nil (Nat.le_of_ble_eq_true rfl)) dX1_ranked_21) (fun _ => ?_)
  refine rk_of (fun _ _ _ _ _ k => lr_aload_n hx hb dX1_ranked_24 rfl (lv_at hl 0 rfl) (lv_iload_n hx hb dX1_ranked_25 rfl (lv_at hl 1 rfl) k)) ?_
  refine rk_callR hX (cl_dsp (fun ci => cl_case (cl_F (n := 1) (rest := []) (av := [.int a1]) C (hc_J2 H) (ct_J2_get H v4 a1) (lw_F q1668 q1067 q847 q105 q848) (zh_Fw H C (by decide) q1066 q1065 q1069 q1068 q309) (by decide +kernel) ⟨(Nat.le_of_ble_eq_true rfl), (Nat.le_of_ble_eq_true rfl)⟩ rfl hl.1 rfl (zw_le zw_nil (Nat.le_of_ble_eq_true rfl)) dX1_ranked_26) (cl_case (cl_F (n := 1) (rest := []) (av := [.int a1]) C (hc_J4 H) (ct_J4_get H v4 a1) (lw_F q1668 q1070 q860 q107 q861) (zh_Fw H C (by decide) q1066 q1065 q1072 q1071 q336) (by decide +kernel) ⟨(Nat.le_of_ble_eq_true rfl), (Nat.le_of_ble_eq_true rfl)⟩ rfl hl.1 rfl (zw_le zw_nil (Nat.le_of_ble_eq_true rfl)) dX1_ranked_26) (cl_fl)))) (fun v26 => ?_)
  refine rk_chk C q1915 (zc_cons (zc_s (hc_J14 H)) zc_nil) zp_nil dX1_ranked_31 ?_
  refine rk_callI hX (cl_V (rest := []) (av := []) C (hc_J14 H) (ct_J14_intValue H v26) (lw_V q1916 q1426 q1427 q119 q1428) ⟨rfl, hd_J14_intValue⟩ ⟨(Nat.le_of_ble_eq_true rfl), (Nat.le_of_ble_eq_true rfl)⟩ rfl hl.1 rfl (zw_le zw_nil (Nat.le_of_ble_eq_true rfl)) dX1_ranked_34) (fun v34 => ?_)
  exact rk_top (rf_iret C rfl dX1_ranked_37)
theorem hd_X0_ranked : yX0_ranked.cls ≠ "java/lang/invoke/MethodHandle" ∧ yX0_ranked.cls ≠ "java/lang/invoke/VarHandle" ∧ (parseMethodDescriptor yX0_ranked.desc).map (fun d => d.parameters.length) = some 3 := by decide +kernel
noncomputable def fn_X0_ranked (K : zm_K) (a0 : zm_R) (a1 : Int32) (a2 : zm_R) : zm_M Int32 :=
  zm_cth (zm_bnd (zm_is a0 18) fun _ => fn_X1_ranked K a0 a1) (fun (E4 : String) (q4 : Nat) =>
      if E4 ∈ (["java/util/NoSuchElementException"] : List String) then
        zm_ret 1
      else
        if E4 ∈ (["java/lang/IllegalArgumentException", "java/lang/IndexOutOfBoundsException", "java/lang/UnsupportedOperationException", "java/lang/ArrayIndexOutOfBoundsException", "java/lang/IllegalStateException", "java/lang/StringIndexOutOfBoundsException", "java/lang/ArithmeticException", "BoxSpans$Refusal", "BoxSpans$TextError"] : List String) then
          zm_thr E4 q4
        else
          zm_fl
    ) fun v4 =>
  zm_bnd (zm_astJ K a2 0 ((v4).toInt64)) fun _ =>
  zm_ret 0
theorem ct_X0_ranked {l : Launch} {Ω : zm_W} {K : zm_K} (H : zm_H Ω K) (a0 : zm_R) (a1 : Int32) (a2 : zm_R) : zm_Ct l Ω yX0_ranked (wsW_ yX0_ranked cX0_ranked 4 (Option.some Jvm.ClassFile.FieldType.int) [(0, 9, 12, 62)]) 21 511 [va_rf a0, .int a1, va_rf a2] zm_tvI (fn_X0_ranked K a0 a1 a2) := by
  refine zm_ctW H.1 (by decide +kernel) (zl_le (zl_R (zl_I (zl_R zl_nil))) (Nat.le_of_ble_eq_true rfl)) ?_
  intro p e R s m args below meth c n0 k0 C hN hT ls hl
  have hx := C.1
  have hb := C.2.1
  simp only [zg_I, zg_R, zg_nil] at hl
  have hl : lv_has ls 4 [(0, va_rf a0), (1, .int a1), (2, va_rf a2)] := hl
  refine rk_rf ?_
  unfold fn_X0_ranked
  refine rk_of (fun _ _ _ _ _ k => lr_aload_n hx hb dX0_ranked_0 rfl (lv_at hl 2 rfl) (lv_iconst (v := 0) hx hb dX0_ranked_1 rfl (lr_aload_n hx hb dX0_ranked_2 rfl (lv_at hl 0 rfl) (lv_iload_n hx hb dX0_ranked_3 rfl (lv_at hl 1 rfl) k)))) ?_
  refine rk_cthI (cl_V (rest := [.int 0, va_rf a2]) (av := [.int a1]) C (hc_X1 H) (ct_X1_ranked H a0 a1) (lw_V q1903 q1904 q1905 q101 q1906) ⟨rfl, hd_X1_ranked⟩ ⟨(Nat.le_of_ble_eq_true rfl), (Nat.le_of_ble_eq_true rfl)⟩ rfl hl.1 rfl (zw_le (zw_I (zw_R zw_nil)) (Nat.le_of_ble_eq_true rfl)) dX0_ranked_4) (fun E4 q4 => ?_) (fun v4 => ?_)
  · refine rx_ite (fun h4_0 => ?_) (fun h4_0 => ?_)
    · refine rx_cat (k := 0) C hT rfl zp_nil ⟨by decide, by decide⟩ (by decide) q1697 ((zp_cons (P := fun E => (Cond.castable E "java/util/NoSuchElementException").before args s = true) (zn_wC H C q788) zp_nil) E4 h4_0) ?_
      refine rk_ofs (fun _ _ _ _ _ k => lr_astore_n hx hb dX0_ranked_12 rfl hl (Nat.le_of_ble_eq_true rfl) [] rfl trivial k) (fun ls hl => ?_)
      refine rk_of (fun _ _ _ _ _ k => lv_iconst (v := 1) hx hb dX0_ranked_13 rfl k) ?_
      exact rk_top (rf_iret C rfl dX0_ranked_14)
    · refine rx_ite (fun h4_x => ?_) (fun _ => rx_fl)
      exact rx_out C hT (zp_cons (Or.inr ⟨by decide, _, q1697, zh_ncs H C (L := ["java/lang/IllegalArgumentException", "java/lang/IndexOutOfBoundsException", "java/lang/UnsupportedOperationException", "java/lang/ArrayIndexOutOfBoundsException", "java/lang/IllegalStateException", "java/lang/StringIndexOutOfBoundsException", "java/lang/ArithmeticException", "BoxSpans$Refusal", "BoxSpans$TextError"]) (by decide) h4_x⟩) zp_nil)
  refine rk_of (fun _ _ _ _ _ k => lv_i2l hx hb dX0_ranked_7 rfl k) ?_
  refine rk_last C H.2.2.1 dX0_ranked_8 ?_
  refine rk_of (fun _ _ _ _ _ k => lv_goto (tgt := 15) hx hb dX0_ranked_9 (by decide) (lv_iconst (v := 0) hx hb dX0_ranked_15 rfl k)) ?_
  exact rk_top (rf_iret C rfl dX0_ranked_16)
theorem hd_J30_init : yJ30_init.cls ≠ "java/lang/invoke/MethodHandle" ∧ yJ30_init.cls ≠ "java/lang/invoke/VarHandle" ∧ (parseMethodDescriptor yJ30_init.desc).map (fun d => d.parameters.length) = some 0 := by decide +kernel
noncomputable def fn_J30_init (K : zm_K) (a0 : zm_R) : zm_M Unit :=
  zm_bnd (zm_bnd (zm_nn a0) fun _ => fn_J11_init_2 K a0) fun _ =>
  zm_ret ()
theorem ct_J30_init {l : Launch} {Ω : zm_W} {K : zm_K} (H : zm_H Ω K) (a0 : zm_R) : zm_Ct l Ω yJ30_init (ws_ yJ30_init cJ30_init 1 (Option.none : Option Jvm.ClassFile.FieldType)) 7 188 [va_rf a0] zm_tvV (fn_J30_init K a0) := by
  refine zm_ct H.1 (by decide +kernel) (zl_le (zl_R zl_nil) (Nat.le_of_ble_eq_true rfl)) ?_
  intro p e R s m args below meth c n0 k0 C hX ls hl
  have hx := C.1
  have hb := C.2.1
  simp only [zg_R, zg_nil] at hl
  have hl : lv_has ls 1 [(0, va_rf a0)] := hl
  refine rk_rf ?_
  unfold fn_J30_init
  refine rk_of (fun _ _ _ _ _ k => lr_aload_n hx hb dJ30_init_0 rfl (lv_at hl 0 rfl) k) ?_
  refine rk_callV hX (cl_Ir (rest := []) C (ct_J11_init_2 H a0) (lw_meth q800) q115 q1941 q799 rfl hd_J11_init_2 ⟨(Nat.le_of_ble_eq_true rfl), (Nat.le_of_ble_eq_true rfl)⟩ rfl hl.1 rfl (zw_le zw_nil (Nat.le_of_ble_eq_true rfl)) dJ30_init_1) (fun _ => ?_)
  exact rk_top (rf_vret C dJ30_init_4)
theorem hd_X1_requireState : yX1_requireState.cls ≠ "java/lang/invoke/MethodHandle" ∧ yX1_requireState.cls ≠ "java/lang/invoke/VarHandle" ∧ (parseMethodDescriptor yX1_requireState.desc).map (fun d => d.parameters.length) = some 1 := by decide +kernel
noncomputable def fn_X1_requireState (K : zm_K) (a0 : Int32) : zm_M Unit :=
  if a0 = 0 then
    zm_bnd (zm_new 15 [.null, .null, .null, .null, .null, .int 0]) fun v4 =>
    zm_bnd (fn_J30_init K (some v4)) fun _ =>
    zm_ath (some v4)
  else
    zm_ret ()
theorem ct_X1_requireState {l : Launch} {Ω : zm_W} {K : zm_K} (H : zm_H Ω K) (a0 : Int32) : zm_Ct l Ω yX1_requireState (ws_ yX1_requireState cX1_requireState 1 (Option.none : Option Jvm.ClassFile.FieldType)) 8 208 [.int a0] zm_tvV (fn_X1_requireState K a0) := by
  refine zm_ct H.1 (by decide +kernel) (zl_le (zl_I zl_nil) (Nat.le_of_ble_eq_true rfl)) ?_
  intro p e R s m args below meth c n0 k0 C hX ls hl
  have hx := C.1
  have hb := C.2.1
  simp only [zg_I, zg_nil] at hl
  have hl : lv_has ls 1 [(0, .int a0)] := hl
  refine rk_rf ?_
  unfold fn_X1_requireState
  refine rk_ite (fun _ _ _ _ _ k1 k2 => lv_iload_n hx hb dX1_requireState_0 rfl (lv_at hl 0 rfl) (lv_if_ne (tgt := 12) hx hb dX1_requireState_1 (by decide) k2 k1)) (fun c_1 => ?_) (fun c_1 => ?_)
  · refine rk_new C (hc_J30 H) in_J30 tyJ30_ok q1929 q1930 q144 (fs := [.null, .null, .null, .null, .null, .int 0]) rfl (fun j hj => zdf_J30 j hj) dX1_requireState_4 (fun v4 => ?_)
    refine rk_of (fun _ _ _ _ _ k => lv_dup hx hb dX1_requireState_7 (va_rf_cat _) k) ?_
    refine rk_callV hX (cl_I (rest := [va_rf (some v4)]) C (ct_J30_init H (some v4)) (lw_meth q1940) q144 q1938 q1939 rfl hd_J30_init ⟨(Nat.le_of_ble_eq_true rfl), (Nat.le_of_ble_eq_true rfl)⟩ rfl hl.1 rfl (zw_le (zw_R zw_nil) (Nat.le_of_ble_eq_true rfl)) dX1_requireState_8) (fun _ => ?_)
    exact rk_ath H C hX dX1_requireState_11
  · exact rk_top (rf_vret C dX1_requireState_12)
theorem hd_J21_canEncode : yJ21_canEncode.cls ≠ "java/lang/invoke/MethodHandle" ∧ yJ21_canEncode.cls ≠ "java/lang/invoke/VarHandle" ∧ (parseMethodDescriptor yJ21_canEncode.desc).map (fun d => d.parameters.length) = some 1 := by decide +kernel
noncomputable def fn_J21_canEncode (K : zm_K) (a0 : Int32) : zm_M Int32 :=
  if 255 < a0 then
    zm_ret 0
  else
    zm_ret 1
theorem ct_J21_canEncode {l : Launch} {Ω : zm_W} {K : zm_K} (H : zm_H Ω K) (a0 : Int32) : zm_Ct l Ω yJ21_canEncode (ws_ yJ21_canEncode cJ21_canEncode 1 (Option.some Jvm.ClassFile.FieldType.boolean)) 1 64 [.int a0] zm_tvI (fn_J21_canEncode K a0) := by
  refine zm_ct H.1 (by decide +kernel) (zl_le (zl_I zl_nil) (Nat.le_of_ble_eq_true rfl)) ?_
  intro p e R s m args below meth c n0 k0 C hX ls hl
  have hx := C.1
  have hb := C.2.1
  simp only [zg_I, zg_nil] at hl
  have hl : lv_has ls 1 [(0, .int a0)] := hl
  refine rk_rf ?_
  unfold fn_J21_canEncode
  refine rk_ite (fun _ _ _ _ _ k1 k2 => lv_iload_n hx hb dJ21_canEncode_0 rfl (lv_at hl 0 rfl) (lv_sipush (v := 255) hx hb dJ21_canEncode_1 rfl (lv_icmp_gt (tgt := 11) hx hb dJ21_canEncode_4 (by decide) k1 k2))) (fun c_4 => ?_) (fun c_4 => ?_)
  · refine rk_of (fun _ _ _ _ _ k => lv_iconst (v := 0) hx hb dJ21_canEncode_11 rfl k) ?_
    exact rk_top (rf_iret C rfl dJ21_canEncode_12)
  · refine rk_of (fun _ _ _ _ _ k => lv_iconst (v := 1) hx hb dJ21_canEncode_7 rfl (lv_goto (tgt := 12) hx hb dJ21_canEncode_8 (by decide) k)) ?_
    exact rk_top (rf_iret C rfl dJ21_canEncode_12)
theorem hd_J8_checkIndex : yJ8_checkIndex.cls ≠ "java/lang/invoke/MethodHandle" ∧ yJ8_checkIndex.cls ≠ "java/lang/invoke/VarHandle" ∧ (parseMethodDescriptor yJ8_checkIndex.desc).map (fun d => d.parameters.length) = some 2 := by decide +kernel
noncomputable def fn_J8_checkIndex (K : zm_K) (a0 : Int32) (a1 : zm_R) : zm_M Unit :=
  zm_bnd (fn_J8_length K a1) fun v2 =>
  zm_bnd (fn_J7_checkIndex K a0 v2) fun _ =>
  zm_ret ()
theorem ct_J8_checkIndex {l : Launch} {Ω : zm_W} {K : zm_K} (H : zm_H Ω K) (a0 : Int32) (a1 : zm_R) : zm_Ct l Ω yJ8_checkIndex (ws_ yJ8_checkIndex cJ8_checkIndex 2 (Option.none : Option Jvm.ClassFile.FieldType)) 3 107 [.int a0, va_rf a1] zm_tvV (fn_J8_checkIndex K a0 a1) := by
  refine zm_ct H.1 (by decide +kernel) (zl_le (zl_I (zl_R zl_nil)) (Nat.le_of_ble_eq_true rfl)) ?_
  intro p e R s m args below meth c n0 k0 C hX ls hl
  have hx := C.1
  have hb := C.2.1
  simp only [zg_I, zg_R, zg_nil] at hl
  have hl : lv_has ls 2 [(0, .int a0), (1, va_rf a1)] := hl
  refine rk_rf ?_
  unfold fn_J8_checkIndex
  refine rk_of (fun _ _ _ _ _ k => lv_iload_n hx hb dJ8_checkIndex_0 rfl (lv_at hl 0 rfl) (lr_aload_n hx hb dJ8_checkIndex_1 rfl (lv_at hl 1 rfl) k)) ?_
  refine rk_callI hX (cl_S (rest := [.int a0]) C (ct_J8_length H a1) (lw_S q470 q471 q111 q472) hd_J8_length ⟨(Nat.le_of_ble_eq_true rfl), (Nat.le_of_ble_eq_true rfl)⟩ rfl hl.1 rfl (zw_le (zw_I zw_nil) (Nat.le_of_ble_eq_true rfl)) dJ8_checkIndex_2) (fun v2 => ?_)
  refine rk_callV hX (cl_S (rest := []) C (ct_J7_checkIndex H a0 v2) (lw_S q1960 q1961 q110 q1962) hd_J7_checkIndex ⟨(Nat.le_of_ble_eq_true rfl), (Nat.le_of_ble_eq_true rfl)⟩ rfl hl.1 rfl (zw_le zw_nil (Nat.le_of_ble_eq_true rfl)) dJ8_checkIndex_5) (fun _ => ?_)
  exact rk_top (rf_vret C dJ8_checkIndex_8)
theorem hd_J8_putCharSB : yJ8_putCharSB.cls ≠ "java/lang/invoke/MethodHandle" ∧ yJ8_putCharSB.cls ≠ "java/lang/invoke/VarHandle" ∧ (parseMethodDescriptor yJ8_putCharSB.desc).map (fun d => d.parameters.length) = some 3 := by decide +kernel
noncomputable def fn_J8_putCharSB (K : zm_K) (a0 : zm_R) (a1 : Int32) (a2 : Int32) : zm_M Unit :=
  zm_bnd (fn_J8_checkIndex K a1 a0) fun _ =>
  zm_bnd (fn_J8_putChar K a0 a1 a2) fun _ =>
  zm_ret ()
theorem ct_J8_putCharSB {l : Launch} {Ω : zm_W} {K : zm_K} (H : zm_H Ω K) (a0 : zm_R) (a1 : Int32) (a2 : Int32) : zm_Ct l Ω yJ8_putCharSB (ws_ yJ8_putCharSB cJ8_putCharSB 3 (Option.none : Option Jvm.ClassFile.FieldType)) 4 128 [va_rf a0, .int a1, .int a2] zm_tvV (fn_J8_putCharSB K a0 a1 a2) := by
  refine zm_ct H.1 (by decide +kernel) (zl_le (zl_R (zl_I (zl_I zl_nil))) (Nat.le_of_ble_eq_true rfl)) ?_
  intro p e R s m args below meth c n0 k0 C hX ls hl
  have hx := C.1
  have hb := C.2.1
  simp only [zg_I, zg_R, zg_nil] at hl
  have hl : lv_has ls 3 [(0, va_rf a0), (1, .int a1), (2, .int a2)] := hl
  refine rk_rf ?_
  unfold fn_J8_putCharSB
  refine rk_of (fun _ _ _ _ _ k => lv_iload_n hx hb dJ8_putCharSB_0 rfl (lv_at hl 1 rfl) (lr_aload_n hx hb dJ8_putCharSB_1 rfl (lv_at hl 0 rfl) k)) ?_
  refine rk_callV hX (cl_S (rest := []) C (ct_J8_checkIndex H a1 a0) (lw_S q1957 q1958 q111 q1959) hd_J8_checkIndex ⟨(Nat.le_of_ble_eq_true rfl), (Nat.le_of_ble_eq_true rfl)⟩ rfl hl.1 rfl (zw_le zw_nil (Nat.le_of_ble_eq_true rfl)) dJ8_putCharSB_2) (fun _ => ?_)
  refine rk_of (fun _ _ _ _ _ k => lr_aload_n hx hb dJ8_putCharSB_5 rfl (lv_at hl 0 rfl) (lv_iload_n hx hb dJ8_putCharSB_6 rfl (lv_at hl 1 rfl) (lv_iload_n hx hb dJ8_putCharSB_7 rfl (lv_at hl 2 rfl) k))) ?_
  refine rk_callV hX (cl_S (rest := []) C (ct_J8_putChar H a0 a1 a2) (lw_S q481 q482 q111 q483) hd_J8_putChar ⟨(Nat.le_of_ble_eq_true rfl), (Nat.le_of_ble_eq_true rfl)⟩ rfl hl.1 rfl (zw_le zw_nil (Nat.le_of_ble_eq_true rfl)) dJ8_putCharSB_8) (fun _ => ?_)
  exact rk_top (rf_vret C dJ8_putCharSB_11)
theorem hd_J5_append_3 : yJ5_append_3.cls ≠ "java/lang/invoke/MethodHandle" ∧ yJ5_append_3.cls ≠ "java/lang/invoke/VarHandle" ∧ (parseMethodDescriptor yJ5_append_3.desc).map (fun d => d.parameters.length) = some 1 := by decide +kernel
noncomputable def fn_J5_append_3 (K : zm_K) (a0 : zm_R) (a1 : Int32) : zm_M zm_R :=
  zm_bnd (zm_getI a0 2 3) fun v2 =>
  zm_bnd (zm_bnd (zm_is a0 2) fun _ => fn_J5_ensureCapacityInternal K a0 (v2 + 1)) fun _ =>
  zm_bnd (zm_bnd (zm_is a0 2) fun _ => fn_J5_isLatin1 K a0) fun v11 =>
  zm_bnx (β := Unit) (
      if v11 = 0 then
        zm_ret (Sum.inl ())
      else
        zm_bnd (fn_J21_canEncode K a1) fun v18 =>
        if v18 = 0 then
          zm_ret (Sum.inl ())
        else
          zm_bnd (zm_getR a0 2 0) fun v25 =>
          zm_bnd (zm_getI a0 2 3) fun v30 =>
          zm_bnd (zm_putF K a0 2 3 (.int (v30 + 1))) fun _ =>
          zm_bnd (zm_astI K .byte v25 v30 ((a1).toInt8.toInt32)) fun _ =>
          zm_ret (Sum.inr a0)
    ) fun (_ : Unit) =>
  zm_bnd (zm_bnd (zm_is a0 2) fun _ => fn_J5_isLatin1 K a0) fun v46 =>
  zm_bnd (α := Unit) (
      if v46 = 0 then
        zm_ret ()
      else
        zm_bnd (zm_bnd (zm_is a0 2) fun _ => fn_J5_inflate K a0) fun _ =>
        zm_ret ()
    ) fun (_ : Unit) =>
  zm_bnd (zm_getR a0 2 0) fun v57 =>
  zm_bnd (zm_getI a0 2 3) fun v62 =>
  zm_bnd (zm_putF K a0 2 3 (.int (v62 + 1))) fun _ =>
  zm_bnd (fn_J8_putCharSB K v57 v62 a1) fun _ =>
  zm_ret a0
theorem ct_J5_append_3 {l : Launch} {Ω : zm_W} {K : zm_K} (H : zm_H Ω K) (a0 : zm_R) (a1 : Int32) : zm_Ct l Ω yJ5_append_3 (ws_ yJ5_append_3 cJ5_append_3 2 (Option.some (Jvm.ClassFile.FieldType.object "java/lang/AbstractStringBuilder"))) 7 201 [va_rf a0, .int a1] zm_tvR (fn_J5_append_3 K a0 a1) := by
  refine zm_ct H.1 (by decide +kernel) (zl_le (zl_R (zl_I zl_nil)) (Nat.le_of_ble_eq_true rfl)) ?_
  intro p e R s m args below meth c n0 k0 C hX ls hl
  have hx := C.1
  have hb := C.2.1
  simp only [zg_I, zg_R, zg_nil] at hl
  have hl : lv_has ls 2 [(0, va_rf a0), (1, .int a1)] := hl
  refine rk_rf ?_
  unfold fn_J5_append_3
  refine rk_of (fun _ _ _ _ _ k => lr_aload_n hx hb dJ5_append_3_0 rfl (lv_at hl 0 rfl) (lr_aload_n hx hb dJ5_append_3_1 rfl (lv_at hl 0 rfl) k)) ?_
  refine rk_get zm_rdI_eq C (hc_J6 H) (k := 3) (Nat.le_of_ble_eq_true rfl) in_J6 q259 (fun _ h => h) dJ5_append_3_2 (fun v2 => ?_)
  refine rk_of (fun _ _ _ _ _ k => lv_iconst (v := 1) hx hb dJ5_append_3_5 rfl (lv_iadd hx hb dJ5_append_3_6 k)) ?_
  refine rk_callV hX (cl_U (n := 1) (rest := []) (av := [.int (v2 + 1)]) C (hc_J6 H) (ct_J5_ensureCapacityInternal H a0 (v2 + 1)) (lw_meth q427) q108 q424 (C.2.2.2.1 _ q3071) (va_Decl.of (C.2.2.2.1 _ q426) (C.2.2.2.1 _ q427)) (zh_up C rfl (zk_selP (by decide +kernel) (zh_w0 H (List.mem_filter.mp q238).1) (zh_w0 H q425) (zh_w0 H (List.mem_filter.mp q426).1) (zh_w0 H (List.mem_filter.mp q462).1) rfl)) q426 (by decide +kernel) ⟨(Nat.le_of_ble_eq_true rfl), (Nat.le_of_ble_eq_true rfl)⟩ rfl hl.1 rfl (zw_le zw_nil (Nat.le_of_ble_eq_true rfl)) dJ5_append_3_7) (fun _ => ?_)
  refine rk_of (fun _ _ _ _ _ k => lr_aload_n hx hb dJ5_append_3_10 rfl (lv_at hl 0 rfl) k) ?_
  refine rk_callI hX (cl_U (n := 0) (rest := []) (av := []) C (hc_J6 H) (ct_J5_isLatin1 H a0) (lw_meth q463) q108 q459 (C.2.2.2.1 _ q461) (va_Decl.of (C.2.2.2.1 _ q460) (C.2.2.2.1 _ q463)) (C.2.2.2.1 _ q462) q460 (by decide +kernel) ⟨(Nat.le_of_ble_eq_true rfl), (Nat.le_of_ble_eq_true rfl)⟩ rfl hl.1 rfl (zw_le zw_nil (Nat.le_of_ble_eq_true rfl)) dJ5_append_3_11) (fun v11 => ?_)
  refine rk_joinx (β := Unit) (fun (b45 : Unit) ls => lv_has ls 2 [(0, va_rf a0), (1, .int a1)]) (fun (b45 : Unit) ls => F0 m 45 ls []) (fun b45 ls hl => ?_) (fun hJ45 => ?_)
  · refine rk_of (fun _ _ _ _ _ k => lr_aload_n hx hb dJ5_append_3_45 rfl (lv_at hl 0 rfl) k) ?_
    refine rk_callI hX (cl_U (n := 0) (rest := []) (av := []) C (hc_J6 H) (ct_J5_isLatin1 H a0) (lw_meth q463) q108 q459 (C.2.2.2.1 _ q461) (va_Decl.of (C.2.2.2.1 _ q460) (C.2.2.2.1 _ q463)) (C.2.2.2.1 _ q462) q460 (by decide +kernel) ⟨(Nat.le_of_ble_eq_true rfl), (Nat.le_of_ble_eq_true rfl)⟩ rfl hl.1 rfl (zw_le zw_nil (Nat.le_of_ble_eq_true rfl)) dJ5_append_3_46) (fun v46 => ?_)
    refine rk_join (β := Unit) (fun (b56 : Unit) ls => lv_has ls 2 [(0, va_rf a0), (1, .int a1)]) (fun (b56 : Unit) ls => F0 m 56 ls []) (fun b56 ls hl => ?_) (fun hJ56 => ?_)
    · refine rk_of (fun _ _ _ _ _ k => lr_aload_n hx hb dJ5_append_3_56 rfl (lv_at hl 0 rfl) k) ?_
      refine rk_get zm_rdR_eq C (hc_J6 H) (k := 0) (Nat.le_of_ble_eq_true rfl) in_J6 q255 (fun _ h => h) dJ5_append_3_57 (fun v57 => ?_)
      refine rk_of (fun _ _ _ _ _ k => lr_aload_n hx hb dJ5_append_3_60 rfl (lv_at hl 0 rfl) (lv_dup hx hb dJ5_append_3_61 (va_rf_cat _) k)) ?_
      refine rk_get zm_rdI_eq C (hc_J6 H) (k := 3) (Nat.le_of_ble_eq_true rfl) in_J6 q259 (fun _ h => h) dJ5_append_3_62 (fun v62 => ?_)
      refine rk_of (fun _ _ _ _ _ k => lv_dup_x1 hx hb dJ5_append_3_65 rfl (va_rf_cat _) (lv_iconst (v := 1) hx hb dJ5_append_3_66 rfl (lv_iadd hx hb dJ5_append_3_67 k))) ?_
      refine rk_put C H.2.2.1 (hc_J6 H) (k := 3) (Nat.le_of_ble_eq_true rfl) in_J6 (ty0 := tyJ6) tyJ6_ok nmJ6 q259 (fun _ h => h) (Or.inl rfl) rfl rfl dJ5_append_3_68 ?_
      refine rk_of (fun _ _ _ _ _ k => lv_iload_n hx hb dJ5_append_3_71 rfl (lv_at hl 1 rfl) k) ?_
      refine rk_callV hX (cl_S (rest := []) C (ct_J8_putCharSB H v57 v62 a1) (lw_S q1954 q1955 q111 q1956) hd_J8_putCharSB ⟨(Nat.le_of_ble_eq_true rfl), (Nat.le_of_ble_eq_true rfl)⟩ rfl hl.1 rfl (zw_le zw_nil (Nat.le_of_ble_eq_true rfl)) dJ5_append_3_72) (fun _ => ?_)
      refine rk_of (fun _ _ _ _ _ k => lr_aload_n hx hb dJ5_append_3_75 rfl (lv_at hl 0 rfl) k) ?_
      exact rk_top (rf_aret C (Or.inl ⟨_, rfl⟩) dJ5_append_3_76)
    · refine rk_ite (fun _ _ _ _ _ k1 k2 => lv_if_eq (tgt := 56) hx hb dJ5_append_3_49 (by decide) k1 k2) (fun c_49 => ?_) (fun c_49 => ?_)
      · exact hJ56 () ls (lv_sub hl [0, 1] rfl)
      · refine rk_of (fun _ _ _ _ _ k => lr_aload_n hx hb dJ5_append_3_52 rfl (lv_at hl 0 rfl) k) ?_
        refine rk_callV hX (cl_U (n := 0) (rest := []) (av := []) C (hc_J6 H) (ct_J5_inflate H a0) (lw_meth q511) q108 q508 (C.2.2.2.1 _ q3075) (va_Decl.of (C.2.2.2.1 _ q510) (C.2.2.2.1 _ q511)) (zh_up C rfl (zk_selP (by decide +kernel) (zh_w0 H (List.mem_filter.mp q238).1) (zh_w0 H q509) (zh_w0 H (List.mem_filter.mp q510).1) (zh_w0 H (List.mem_filter.mp q462).1) rfl)) q510 (by decide +kernel) ⟨(Nat.le_of_ble_eq_true rfl), (Nat.le_of_ble_eq_true rfl)⟩ rfl hl.1 rfl (zw_le zw_nil (Nat.le_of_ble_eq_true rfl)) dJ5_append_3_53) (fun _ => ?_)
        exact hJ56 () ls (lv_sub hl [0, 1] rfl)
  · refine rk_ite (fun _ _ _ _ _ k1 k2 => lv_if_eq (tgt := 45) hx hb dJ5_append_3_14 (by decide) k1 k2) (fun c_14 => ?_) (fun c_14 => ?_)
    · exact hJ45 () ls (lv_sub hl [0, 1] rfl)
    · refine rk_of (fun _ _ _ _ _ k => lv_iload_n hx hb dJ5_append_3_17 rfl (lv_at hl 1 rfl) k) ?_
      refine rk_callI hX (cl_S (rest := []) C (ct_J21_canEncode H a1) (lw_S q1951 q1952 q128 q1953) hd_J21_canEncode ⟨(Nat.le_of_ble_eq_true rfl), (Nat.le_of_ble_eq_true rfl)⟩ rfl hl.1 rfl (zw_le zw_nil (Nat.le_of_ble_eq_true rfl)) dJ5_append_3_18) (fun v18 => ?_)
      refine rk_ite (fun _ _ _ _ _ k1 k2 => lv_if_eq (tgt := 45) hx hb dJ5_append_3_21 (by decide) k1 k2) (fun c_21 => ?_) (fun c_21 => ?_)
      · exact hJ45 () ls (lv_sub hl [0, 1] rfl)
      · refine rk_of (fun _ _ _ _ _ k => lr_aload_n hx hb dJ5_append_3_24 rfl (lv_at hl 0 rfl) k) ?_
        refine rk_get zm_rdR_eq C (hc_J6 H) (k := 0) (Nat.le_of_ble_eq_true rfl) in_J6 q255 (fun _ h => h) dJ5_append_3_25 (fun v25 => ?_)
        refine rk_of (fun _ _ _ _ _ k => lr_aload_n hx hb dJ5_append_3_28 rfl (lv_at hl 0 rfl) (lv_dup hx hb dJ5_append_3_29 (va_rf_cat _) k)) ?_
        refine rk_get zm_rdI_eq C (hc_J6 H) (k := 3) (Nat.le_of_ble_eq_true rfl) in_J6 q259 (fun _ h => h) dJ5_append_3_30 (fun v30 => ?_)
        refine rk_of (fun _ _ _ _ _ k => lv_dup_x1 hx hb dJ5_append_3_33 rfl (va_rf_cat _) (lv_iconst (v := 1) hx hb dJ5_append_3_34 rfl (lv_iadd hx hb dJ5_append_3_35 k))) ?_
        refine rk_put C H.2.2.1 (hc_J6 H) (k := 3) (Nat.le_of_ble_eq_true rfl) in_J6 (ty0 := tyJ6) tyJ6_ok nmJ6 q259 (fun _ h => h) (Or.inl rfl) rfl rfl dJ5_append_3_36 ?_
        refine rk_of (fun _ _ _ _ _ k => lv_iload_n hx hb dJ5_append_3_39 rfl (lv_at hl 1 rfl) (lv_i2b hx hb dJ5_append_3_40 rfl k)) ?_
        refine rk_bast C H.2.2.1 dJ5_append_3_41 ?_
        refine rk_of (fun _ _ _ _ _ k => lv_goto (tgt := 75) hx hb dJ5_append_3_42 (by decide) (lr_aload_n hx hb dJ5_append_3_75 rfl (lv_at hl 0 rfl) k)) ?_
        refine rk_inr ?_
        exact rk_top (rf_aret C (Or.inl ⟨_, rfl⟩) dJ5_append_3_76)
theorem hd_J6_append_3 : yJ6_append_3.cls ≠ "java/lang/invoke/MethodHandle" ∧ yJ6_append_3.cls ≠ "java/lang/invoke/VarHandle" ∧ (parseMethodDescriptor yJ6_append_3.desc).map (fun d => d.parameters.length) = some 1 := by decide +kernel
noncomputable def fn_J6_append_3 (K : zm_K) (a0 : zm_R) (a1 : Int32) : zm_M zm_R :=
  zm_bnd (zm_bnd (zm_is a0 2) fun _ => fn_J5_append_3 K a0 a1) fun v2 =>
  zm_ret a0
theorem ct_J6_append_3 {l : Launch} {Ω : zm_W} {K : zm_K} (H : zm_H Ω K) (a0 : zm_R) (a1 : Int32) : zm_Ct l Ω yJ6_append_3 (ws_ yJ6_append_3 cJ6_append_3 2 (Option.some (Jvm.ClassFile.FieldType.object "java/lang/StringBuilder"))) 8 222 [va_rf a0, .int a1] zm_tvR (fn_J6_append_3 K a0 a1) := by
  refine zm_ct H.1 (by decide +kernel) (zl_le (zl_R (zl_I zl_nil)) (Nat.le_of_ble_eq_true rfl)) ?_
  intro p e R s m args below meth c n0 k0 C hX ls hl
  have hx := C.1
  have hb := C.2.1
  simp only [zg_I, zg_R, zg_nil] at hl
  have hl : lv_has ls 2 [(0, va_rf a0), (1, .int a1)] := hl
  refine rk_rf ?_
  unfold fn_J6_append_3
  refine rk_of (fun _ _ _ _ _ k => lr_aload_n hx hb dJ6_append_3_0 rfl (lv_at hl 0 rfl) (lv_iload_n hx hb dJ6_append_3_1 rfl (lv_at hl 1 rfl) k)) ?_
  refine rk_callR hX (cl_SU (n := 1) (rest := []) (av := [.int a1]) C (hc_J6 H) (ct_J5_append_3 H a0 a1) (lw_SU q1948 q3088 q268 q1949 q108 q1950) (by decide +kernel) ⟨(Nat.le_of_ble_eq_true rfl), (Nat.le_of_ble_eq_true rfl)⟩ rfl hl.1 rfl (zw_le zw_nil (Nat.le_of_ble_eq_true rfl)) dJ6_append_3_2) (fun v2 => ?_)
  refine rk_of (fun _ _ _ _ _ k => lv_pop hx hb dJ6_append_3_5 (va_rf_cat _) (lr_aload_n hx hb dJ6_append_3_6 rfl (lv_at hl 0 rfl) k)) ?_
  exact rk_top (rf_aret C (Or.inl ⟨_, rfl⟩) dJ6_append_3_7)
theorem hd_X1_type : yX1_type.cls ≠ "java/lang/invoke/MethodHandle" ∧ yX1_type.cls ≠ "java/lang/invoke/VarHandle" ∧ (parseMethodDescriptor yX1_type.desc).map (fun d => d.parameters.length) = some 1 := by decide +kernel
noncomputable def fn_X1_type (K : zm_K) (a0 : zm_R) (a1 : Int32) : zm_M Int32 :=
  zm_bnd (zm_getR a0 18 3) fun v1 =>
  zm_bnd (zm_bnd (zm_is v1 2) fun _ => fn_J6_length K v1) fun v4 =>
  zm_bnd (α := Int32) (
      if 60 ≤ v4 then
        zm_ret 0
      else
        zm_ret 1
    ) fun b17 =>
  zm_bnd (fn_X1_requireState K b17) fun _ =>
  zm_bnd (zm_getR a0 18 3) fun v21 =>
  zm_bnd (zm_bnd (zm_is v21 2) fun _ => fn_J6_append_3 K v21 a1) fun v25 =>
  zm_bnd (zm_getR a0 18 3) fun v30 =>
  zm_bnd (zm_bnd (zm_is v30 2) fun _ => fn_J6_length K v30) fun v33 =>
  zm_ret v33
theorem ct_X1_type {l : Launch} {Ω : zm_W} {K : zm_K} (H : zm_H Ω K) (a0 : zm_R) (a1 : Int32) : zm_Ct l Ω yX1_type (ws_ yX1_type cX1_type 2 (Option.some Jvm.ClassFile.FieldType.int)) 9 243 [va_rf a0, .int a1] zm_tvI (fn_X1_type K a0 a1) := by
  refine zm_ct H.1 (by decide +kernel) (zl_le (zl_R (zl_I zl_nil)) (Nat.le_of_ble_eq_true rfl)) ?_
  intro p e R s m args below meth c n0 k0 C hX ls hl
  have hx := C.1
  have hb := C.2.1
  simp only [zg_I, zg_R, zg_nil] at hl
  have hl : lv_has ls 2 [(0, va_rf a0), (1, .int a1)] := hl
  refine rk_rf ?_
  unfold fn_X1_type
  refine rk_of (fun _ _ _ _ _ k => lr_aload_n hx hb dX1_type_0 rfl (lv_at hl 0 rfl) k) ?_
  refine rk_get zm_rdR_eq C (hc_X1 H) (k := 3) (Nat.le_of_ble_eq_true rfl) in_X1 q274 (fun _ h => h) dX1_type_1 (fun v1 => ?_)
  refine rk_callI hX (cl_V (rest := []) (av := []) C (hc_J6 H) (ct_J6_length H v1) (lw_V q1925 q581 q3087 q109 q582) ⟨rfl, hd_J6_length⟩ ⟨(Nat.le_of_ble_eq_true rfl), (Nat.le_of_ble_eq_true rfl)⟩ rfl hl.1 rfl (zw_le zw_nil (Nat.le_of_ble_eq_true rfl)) dX1_type_4) (fun v4 => ?_)
  refine rk_of (fun _ _ _ _ _ k => lv_bipush (v := 60) hx hb dX1_type_7 rfl k) ?_
  refine rk_join (β := Int32) (fun (b17 : Int32) ls => lv_has ls 2 [(0, va_rf a0), (1, .int a1)]) (fun (b17 : Int32) ls => F0 m 17 ls [.int b17]) (fun b17 ls hl => ?_) (fun hJ17 => ?_)
  · refine rk_callV hX (cl_S (rest := []) C (ct_X1_requireState H b17) (lw_S q1926 q1927 q101 q1928) hd_X1_requireState ⟨(Nat.le_of_ble_eq_true rfl), (Nat.le_of_ble_eq_true rfl)⟩ rfl hl.1 rfl (zw_le zw_nil (Nat.le_of_ble_eq_true rfl)) dX1_type_17) (fun _ => ?_)
    refine rk_of (fun _ _ _ _ _ k => lr_aload_n hx hb dX1_type_20 rfl (lv_at hl 0 rfl) k) ?_
    refine rk_get zm_rdR_eq C (hc_X1 H) (k := 3) (Nat.le_of_ble_eq_true rfl) in_X1 q274 (fun _ h => h) dX1_type_21 (fun v21 => ?_)
    refine rk_of (fun _ _ _ _ _ k => lv_iload_n hx hb dX1_type_24 rfl (lv_at hl 1 rfl) k) ?_
    refine rk_callR hX (cl_V (rest := []) (av := [.int a1]) C (hc_J6 H) (ct_J6_append_3 H v21 a1) (lw_V q1944 q1945 q1946 q109 q1947) ⟨rfl, hd_J6_append_3⟩ ⟨(Nat.le_of_ble_eq_true rfl), (Nat.le_of_ble_eq_true rfl)⟩ rfl hl.1 rfl (zw_le zw_nil (Nat.le_of_ble_eq_true rfl)) dX1_type_25) (fun v25 => ?_)
    refine rk_of (fun _ _ _ _ _ k => lv_pop hx hb dX1_type_28 (va_rf_cat _) (lr_aload_n hx hb dX1_type_29 rfl (lv_at hl 0 rfl) k)) ?_
    refine rk_get zm_rdR_eq C (hc_X1 H) (k := 3) (Nat.le_of_ble_eq_true rfl) in_X1 q274 (fun _ h => h) dX1_type_30 (fun v30 => ?_)
    refine rk_callI hX (cl_V (rest := []) (av := []) C (hc_J6 H) (ct_J6_length H v30) (lw_V q1925 q581 q3087 q109 q582) ⟨rfl, hd_J6_length⟩ ⟨(Nat.le_of_ble_eq_true rfl), (Nat.le_of_ble_eq_true rfl)⟩ rfl hl.1 rfl (zw_le zw_nil (Nat.le_of_ble_eq_true rfl)) dX1_type_33) (fun v33 => ?_)
    exact rk_top (rf_iret C rfl dX1_type_36)
  · refine rk_ite (fun _ _ _ _ _ k1 k2 => lv_icmp_ge (tgt := 16) hx hb dX1_type_9 (by decide) k1 k2) (fun c_9 => ?_) (fun c_9 => ?_)
    · refine rk_of (fun _ _ _ _ _ k => lv_iconst (v := 0) hx hb dX1_type_16 rfl k) ?_
      exact hJ17 0 ls (lv_sub hl [0, 1] rfl)
    · refine rk_of (fun _ _ _ _ _ k => lv_iconst (v := 1) hx hb dX1_type_12 rfl (lv_goto (tgt := 17) hx hb dX1_type_13 (by decide) k)) ?_
      exact hJ17 1 ls (lv_sub hl [0, 1] rfl)
theorem hd_X0_type : yX0_type.cls ≠ "java/lang/invoke/MethodHandle" ∧ yX0_type.cls ≠ "java/lang/invoke/VarHandle" ∧ (parseMethodDescriptor yX0_type.desc).map (fun d => d.parameters.length) = some 3 := by decide +kernel
noncomputable def fn_X0_type (K : zm_K) (a0 : zm_R) (a1 : Int32) (a2 : zm_R) : zm_M Int32 :=
  zm_cth (zm_bnd (zm_is a0 18) fun _ => fn_X1_type K a0 a1) (fun (E4 : String) (q4 : Nat) =>
      if E4 ∈ (["java/lang/IllegalStateException"] : List String) then
        zm_ret 1
      else
        if E4 ∈ (["java/lang/IllegalArgumentException", "java/lang/IndexOutOfBoundsException", "java/util/NoSuchElementException", "java/lang/UnsupportedOperationException", "java/lang/ArrayIndexOutOfBoundsException", "java/lang/StringIndexOutOfBoundsException", "java/lang/ArithmeticException", "BoxSpans$Refusal", "BoxSpans$TextError"] : List String) then
          zm_thr E4 q4
        else
          zm_fl
    ) fun v4 =>
  zm_bnd (zm_astJ K a2 0 ((v4).toInt64)) fun _ =>
  zm_ret 0
theorem ct_X0_type {l : Launch} {Ω : zm_W} {K : zm_K} (H : zm_H Ω K) (a0 : zm_R) (a1 : Int32) (a2 : zm_R) : zm_Ct l Ω yX0_type (wsW_ yX0_type cX0_type 4 (Option.some Jvm.ClassFile.FieldType.int) [(0, 9, 12, 93)]) 10 264 [va_rf a0, .int a1, va_rf a2] zm_tvI (fn_X0_type K a0 a1 a2) := by
  refine zm_ctW H.1 (by decide +kernel) (zl_le (zl_R (zl_I (zl_R zl_nil))) (Nat.le_of_ble_eq_true rfl)) ?_
  intro p e R s m args below meth c n0 k0 C hN hT ls hl
  have hx := C.1
  have hb := C.2.1
  simp only [zg_I, zg_R, zg_nil] at hl
  have hl : lv_has ls 4 [(0, va_rf a0), (1, .int a1), (2, va_rf a2)] := hl
  refine rk_rf ?_
  unfold fn_X0_type
  refine rk_of (fun _ _ _ _ _ k => lr_aload_n hx hb dX0_type_0 rfl (lv_at hl 2 rfl) (lv_iconst (v := 0) hx hb dX0_type_1 rfl (lr_aload_n hx hb dX0_type_2 rfl (lv_at hl 0 rfl) (lv_iload_n hx hb dX0_type_3 rfl (lv_at hl 1 rfl) k)))) ?_
  refine rk_cthI (cl_V (rest := [.int 0, va_rf a2]) (av := [.int a1]) C (hc_X1 H) (ct_X1_type H a0 a1) (lw_V q1921 q1922 q1923 q101 q1924) ⟨rfl, hd_X1_type⟩ ⟨(Nat.le_of_ble_eq_true rfl), (Nat.le_of_ble_eq_true rfl)⟩ rfl hl.1 rfl (zw_le (zw_I (zw_R zw_nil)) (Nat.le_of_ble_eq_true rfl)) dX0_type_4) (fun E4 q4 => ?_) (fun v4 => ?_)
  · refine rx_ite (fun h4_0 => ?_) (fun h4_0 => ?_)
    · refine rx_cat (k := 0) C hT rfl zp_nil ⟨by decide, by decide⟩ (by decide) q1920 ((zp_cons (P := fun E => (Cond.castable E "java/lang/IllegalStateException").before args s = true) (zn_wC H C q1931) zp_nil) E4 h4_0) ?_
      refine rk_ofs (fun _ _ _ _ _ k => lr_astore_n hx hb dX0_type_12 rfl hl (Nat.le_of_ble_eq_true rfl) [] rfl trivial k) (fun ls hl => ?_)
      refine rk_of (fun _ _ _ _ _ k => lv_iconst (v := 1) hx hb dX0_type_13 rfl k) ?_
      exact rk_top (rf_iret C rfl dX0_type_14)
    · refine rx_ite (fun h4_x => ?_) (fun _ => rx_fl)
      exact rx_out C hT (zp_cons (Or.inr ⟨by decide, _, q1920, zh_ncs H C (L := ["java/lang/IllegalArgumentException", "java/lang/IndexOutOfBoundsException", "java/util/NoSuchElementException", "java/lang/UnsupportedOperationException", "java/lang/ArrayIndexOutOfBoundsException", "java/lang/StringIndexOutOfBoundsException", "java/lang/ArithmeticException", "BoxSpans$Refusal", "BoxSpans$TextError"]) (by decide) h4_x⟩) zp_nil)
  refine rk_of (fun _ _ _ _ _ k => lv_i2l hx hb dX0_type_7 rfl k) ?_
  refine rk_last C H.2.2.1 dX0_type_8 ?_
  refine rk_of (fun _ _ _ _ _ k => lv_goto (tgt := 15) hx hb dX0_type_9 (by decide) (lv_iconst (v := 0) hx hb dX0_type_15 rfl k)) ?_
  exact rk_top (rf_iret C rfl dX0_type_16)
theorem hd_X11_init : yX11_init.cls ≠ "java/lang/invoke/MethodHandle" ∧ yX11_init.cls ≠ "java/lang/invoke/VarHandle" ∧ (parseMethodDescriptor yX11_init.desc).map (fun d => d.parameters.length) = some 1 := by decide +kernel
noncomputable def fn_X11_init (K : zm_K) (a0 : zm_R) (a1 : zm_R) : zm_M Unit :=
  zm_bnd (zm_grd (a0 ≠ none)) fun _ =>
  zm_bnd (zm_putF K a0 27 0 (va_rf a1)) fun _ =>
  zm_ret ()
theorem ct_X11_init {l : Launch} {Ω : zm_W} {K : zm_K} (H : zm_H Ω K) (a0 : zm_R) (a1 : zm_R) : zm_Ct l Ω yX11_init (ws_ yX11_init cX11_init 2 (Option.none : Option Jvm.ClassFile.FieldType)) 2 84 [va_rf a0, va_rf a1] zm_tvV (fn_X11_init K a0 a1) := by
  refine zm_ct H.1 (by decide +kernel) (zl_le (zl_R (zl_R zl_nil)) (Nat.le_of_ble_eq_true rfl)) ?_
  intro p e R s m args below meth c n0 k0 C hX ls hl
  have hx := C.1
  have hb := C.2.1
  simp only [zg_R, zg_nil] at hl
  have hl : lv_has ls 2 [(0, va_rf a0), (1, va_rf a1)] := hl
  refine rk_rf ?_
  unfold fn_X11_init
  refine rk_of (fun _ _ _ _ _ k => lr_aload_n hx hb dX11_init_0 rfl (lv_at hl 0 rfl) k) ?_
  refine rk_grd (fun hg_1 => ?_)
  refine rk_of (fun _ _ _ _ _ k => zo_init C hl.1 q1977 q156 q157 hg_1 (Nat.le_of_ble_eq_true rfl) (zw_le12 zw_nil (Nat.le_of_ble_eq_true rfl)) dX11_init_1 k) ?_
  refine rk_of (fun _ _ _ _ _ k => lr_aload_n hx hb dX11_init_4 rfl (lv_at hl 0 rfl) (lr_aload_n hx hb dX11_init_5 rfl (lv_at hl 1 rfl) k)) ?_
  refine rk_put C H.2.2.1 (hc_X11 H) (k := 0) (Nat.le_of_ble_eq_true rfl) in_X11 (ty0 := tyX11) tyX11_ok nmX11 q1978 (fun _ h => h) (Or.inr ⟨rfl, rfl, rfl⟩) (zn_R rfl _) (zp_R rfl _) dX11_init_6 ?_
  exact rk_top (rf_vret C dX11_init_9)
theorem hd_J8_getChar : yJ8_getChar.cls ≠ "java/lang/invoke/MethodHandle" ∧ yJ8_getChar.cls ≠ "java/lang/invoke/VarHandle" ∧ (parseMethodDescriptor yJ8_getChar.desc).map (fun d => d.parameters.length) = some 2 := by decide +kernel
noncomputable def fn_J8_getChar (K : zm_K) (a0 : zm_R) (a1 : Int32) : zm_M Int32 :=
  zm_bnd (α := Unit) (
      if (1 : Int32) = 0 then
        zm_bnx (β := Unit) (
            if a1 < 0 then
              zm_ret (Sum.inl ())
            else
              zm_bnd (fn_J8_length K a0) fun v12 =>
              if a1 < v12 then
                zm_ret (Sum.inr ())
              else
                zm_ret (Sum.inl ())
          ) fun (_ : Unit) =>
        zm_fl
      else
        zm_ret ()
    ) fun (_ : Unit) =>
  zm_bnd (zm_aldI .byte a0 (a1 <<< (1 &&& 31))) fun v37 =>
  zm_bnd (zm_aldI .byte a0 ((a1 <<< (1 &&& 31)) + 1)) fun v48 =>
  zm_bnd (zm_grd ((0 : Int32) ≤ (((((v37 &&& 255) <<< (0 &&& 31)) ||| ((v48 &&& 255) <<< (8 &&& 31))).toUInt32 % 65536).toInt32) ∧ (((((v37 &&& 255) <<< (0 &&& 31)) ||| ((v48 &&& 255) <<< (8 &&& 31))).toUInt32 % 65536).toInt32) ≤ 65535)) fun _ =>
  zm_ret (((((v37 &&& 255) <<< (0 &&& 31)) ||| ((v48 &&& 255) <<< (8 &&& 31))).toUInt32 % 65536).toInt32)
theorem ct_J8_getChar {l : Launch} {Ω : zm_W} {K : zm_K} (H : zm_H Ω K) (a0 : zm_R) (a1 : Int32) : zm_Ct l Ω yJ8_getChar (ws_ yJ8_getChar cJ8_getChar 2 (Option.some Jvm.ClassFile.FieldType.char)) 2 84 [va_rf a0, .int a1] zm_tvI (fn_J8_getChar K a0 a1) := by
  refine zm_ct H.1 (by decide +kernel) (zl_le (zl_R (zl_I zl_nil)) (Nat.le_of_ble_eq_true rfl)) ?_
  intro p e R s m args below meth c n0 k0 C hX ls hl
  have hx := C.1
  have hb := C.2.1
  simp only [zg_I, zg_R, zg_nil] at hl
  have hl : lv_has ls 2 [(0, va_rf a0), (1, .int a1)] := hl
  refine rk_rf ?_
  unfold fn_J8_getChar
  refine rk_gets C (zh_it2 H) q484 (fun _ h => h) dJ8_getChar_0 ?_
  refine rk_join (β := Unit) (fun (b28 : Unit) ls => lv_has ls 2 [(0, va_rf a0), (1, .int a1)]) (fun (b28 : Unit) ls => F0 m 28 ls []) (fun b28 ls hl => ?_) (fun hJ28 => ?_)
  · refine rk_ofs (fun _ _ _ _ _ k => lv_iload_n hx hb dJ8_getChar_28 rfl (lv_at hl 1 rfl) (lv_iconst (v := 1) hx hb dJ8_getChar_29 rfl (lv_ishl hx hb dJ8_getChar_30 (lr_istore_n hx hb dJ8_getChar_31 rfl hl (Nat.le_of_ble_eq_true rfl) [0] rfl ⟨(by first | exact va_rf_cat _ | rfl), trivial⟩ k)))) (fun ls hl => ?_)
    refine rk_ofs (fun _ _ _ _ _ k => lr_aload_n hx hb dJ8_getChar_32 rfl (lv_at hl 1 rfl) (lv_iload_n hx hb dJ8_getChar_33 rfl (lv_at hl 0 rfl) (lr_iinc (v := (a1 <<< (1 &&& 31)) + 1) hx hb dJ8_getChar_34 hl (k := 0) rfl rfl (Nat.le_of_ble_eq_true rfl) [1] rfl ⟨(by first | exact va_rf_cat _ | rfl), trivial⟩ k))) (fun ls hl => ?_)
    refine rk_bald C dJ8_getChar_37 (fun v37 => ?_)
    refine rk_of (fun _ _ _ _ _ k => lv_sipush (v := 255) hx hb dJ8_getChar_38 rfl (lv_iand hx hb dJ8_getChar_41 k)) ?_
    refine rk_gets C (zh_it3 H) q486 (fun _ h => h) dJ8_getChar_42 ?_
    refine rk_of (fun _ _ _ _ _ k => lv_ishl hx hb dJ8_getChar_45 (lr_aload_n hx hb dJ8_getChar_46 rfl (lv_at hl 1 rfl) (lv_iload_n hx hb dJ8_getChar_47 rfl (lv_at hl 0 rfl) k))) ?_
    refine rk_bald C dJ8_getChar_48 (fun v48 => ?_)
    refine rk_of (fun _ _ _ _ _ k => lv_sipush (v := 255) hx hb dJ8_getChar_49 rfl (lv_iand hx hb dJ8_getChar_52 k)) ?_
    refine rk_gets C (zh_it4 H) q488 (fun _ h => h) dJ8_getChar_53 ?_
    refine rk_of (fun _ _ _ _ _ k => lv_ishl hx hb dJ8_getChar_56 (lv_ior hx hb dJ8_getChar_57 (lv_i2c hx hb dJ8_getChar_58 rfl k))) ?_
    refine rk_grd (fun hg_59 => ?_)
    exact rk_top (rf_iret C (zn_C hg_59) dJ8_getChar_59)
  · refine rk_ite (fun _ _ _ _ _ k1 k2 => lv_if_ne (tgt := 28) hx hb dJ8_getChar_3 (by decide) k2 k1) (fun c_3 => ?_) (fun c_3 => ?_)
    · refine rk_of (fun _ _ _ _ _ k => lv_iload_n hx hb dJ8_getChar_6 rfl (lv_at hl 1 rfl) k) ?_
      refine rk_joinx (β := Unit) (fun (b18 : Unit) ls => lv_has ls 2 []) (fun (b18 : Unit) ls => F0 m 18 ls []) (fun b18 ls hl => ?_) (fun hJ18 => ?_)
      · exact rk_fl
      · refine rk_ite (fun _ _ _ _ _ k1 k2 => lv_if_lt (tgt := 18) hx hb dJ8_getChar_7 (by decide) k1 k2) (fun c_7 => ?_) (fun c_7 => ?_)
        · exact hJ18 () ls (lv_sub hl [] rfl)
        · refine rk_of (fun _ _ _ _ _ k => lv_iload_n hx hb dJ8_getChar_10 rfl (lv_at hl 1 rfl) (lr_aload_n hx hb dJ8_getChar_11 rfl (lv_at hl 0 rfl) k)) ?_
          refine rk_callI hX (cl_S (rest := [.int a1]) C (ct_J8_length H a0) (lw_S q470 q471 q111 q472) hd_J8_length ⟨(Nat.le_of_ble_eq_true rfl), (Nat.le_of_ble_eq_true rfl)⟩ rfl hl.1 rfl (zw_le (zw_I zw_nil) (Nat.le_of_ble_eq_true rfl)) dJ8_getChar_12) (fun v12 => ?_)
          refine rk_ite (fun _ _ _ _ _ k1 k2 => lv_icmp_lt (tgt := 28) hx hb dJ8_getChar_15 (by decide) k1 k2) (fun c_15 => ?_) (fun c_15 => ?_)
          · refine rk_inr ?_
            exact hJ28 () ls (lv_sub hl [0, 1] rfl)
          · exact hJ18 () ls (lv_sub hl [] rfl)
    · exact hJ28 () ls (lv_sub hl [0, 1] rfl)
theorem hd_J5_charAt : yJ5_charAt.cls ≠ "java/lang/invoke/MethodHandle" ∧ yJ5_charAt.cls ≠ "java/lang/invoke/VarHandle" ∧ (parseMethodDescriptor yJ5_charAt.desc).map (fun d => d.parameters.length) = some 1 := by decide +kernel
noncomputable def fn_J5_charAt (K : zm_K) (a0 : zm_R) (a1 : Int32) : zm_M Int32 :=
  zm_bnd (zm_getI a0 2 1) fun v1 =>
  zm_bnd (zm_getR a0 2 0) fun v6 =>
  zm_bnd (zm_getI a0 2 3) fun v11 =>
  zm_bnd (zm_alen v6) fun v15 =>
  zm_bnd (zm_ret (if ((v15 >>> (v1 &&& 31)) < v11 : Prop) then ((v15 >>> (v1 &&& 31)) : Int32) else v11)) fun v18 =>
  zm_bnd (fn_J7_checkIndex K a1 v18) fun _ =>
  if v1 = 0 then
    zm_bnd (zm_aldI .byte v6 a1) fun v35 =>
    zm_bnd (zm_grd ((0 : Int32) ≤ (((v35 &&& 255).toUInt32 % 65536).toInt32) ∧ (((v35 &&& 255).toUInt32 % 65536).toInt32) ≤ 65535)) fun _ =>
    zm_ret (((v35 &&& 255).toUInt32 % 65536).toInt32)
  else
    zm_bnd (fn_J8_getChar K v6 a1) fun v44 =>
    zm_bnd (zm_grd ((0 : Int32) ≤ v44 ∧ v44 ≤ 65535)) fun _ =>
    zm_ret v44
theorem ct_J5_charAt {l : Launch} {Ω : zm_W} {K : zm_K} (H : zm_H Ω K) (a0 : zm_R) (a1 : Int32) : zm_Ct l Ω yJ5_charAt (ws_ yJ5_charAt cJ5_charAt 5 (Option.some Jvm.ClassFile.FieldType.char)) 4 128 [va_rf a0, .int a1] zm_tvI (fn_J5_charAt K a0 a1) := by
  refine zm_ct H.1 (by decide +kernel) (zl_le (zl_R (zl_I zl_nil)) (Nat.le_of_ble_eq_true rfl)) ?_
  intro p e R s m args below meth c n0 k0 C hX ls hl
  have hx := C.1
  have hb := C.2.1
  simp only [zg_I, zg_R, zg_nil] at hl
  have hl : lv_has ls 5 [(0, va_rf a0), (1, .int a1)] := hl
  refine rk_rf ?_
  unfold fn_J5_charAt
  refine rk_of (fun _ _ _ _ _ k => lr_aload_n hx hb dJ5_charAt_0 rfl (lv_at hl 0 rfl) k) ?_
  refine rk_get zm_rdI_eq C (hc_J6 H) (k := 1) (Nat.le_of_ble_eq_true rfl) in_J6 q256 (fun _ h => h) dJ5_charAt_1 (fun v1 => ?_)
  refine rk_ofs (fun _ _ _ _ _ k => lr_istore_n hx hb dJ5_charAt_4 rfl hl (Nat.le_of_ble_eq_true rfl) [0, 1] rfl ⟨trivial, ⟨rfl, trivial⟩⟩ k) (fun ls hl => ?_)
  refine rk_of (fun _ _ _ _ _ k => lr_aload_n hx hb dJ5_charAt_5 rfl (lv_at hl 1 rfl) k) ?_
  refine rk_get zm_rdR_eq C (hc_J6 H) (k := 0) (Nat.le_of_ble_eq_true rfl) in_J6 q255 (fun _ h => h) dJ5_charAt_6 (fun v6 => ?_)
  refine rk_ofs (fun _ _ _ _ _ k => lr_astore_n hx hb dJ5_charAt_9 rfl hl (Nat.le_of_ble_eq_true rfl) [0, 1, 2] rfl ⟨rfl, ⟨trivial, ⟨trivial, trivial⟩⟩⟩ k) (fun ls hl => ?_)
  refine rk_of (fun _ _ _ _ _ k => lr_aload_n hx hb dJ5_charAt_10 rfl (lv_at hl 2 rfl) k) ?_
  refine rk_get zm_rdI_eq C (hc_J6 H) (k := 3) (Nat.le_of_ble_eq_true rfl) in_J6 q259 (fun _ h => h) dJ5_charAt_11 (fun v11 => ?_)
  refine rk_of (fun _ _ _ _ _ k => lr_aload_n hx hb dJ5_charAt_14 rfl (lv_at hl 0 rfl) k) ?_
  refine rk_alen C dJ5_charAt_15 (fun v15 => ?_)
  refine rk_of (fun _ _ _ _ _ k => lv_iload_n hx hb dJ5_charAt_16 rfl (lv_at hl 1 rfl) (lv_ishr hx hb dJ5_charAt_17 k)) ?_
  refine rk_mmin C hl.1 q2045 q454 q122 q455 (Nat.le_of_ble_eq_true rfl) (zw_ad zw_nil (Nat.le_of_ble_eq_true rfl)) dJ5_charAt_18 (fun v18 => ?_)
  refine rk_ofs (fun _ _ _ _ _ k => lr_istore hx hb dJ5_charAt_21 hl (Nat.le_of_ble_eq_true rfl) [0, 1, 3] rfl ⟨(by first | exact va_rf_cat _ | rfl), ⟨trivial, ⟨trivial, trivial⟩⟩⟩ k) (fun ls hl => ?_)
  refine rk_of (fun _ _ _ _ _ k => lv_iload_n hx hb dJ5_charAt_23 rfl (lv_at hl 3 rfl) (lv_iload hx hb dJ5_charAt_24 (lv_at hl 0 rfl) k)) ?_
  refine rk_callV hX (cl_S (rest := []) C (ct_J7_checkIndex H a1 v18) (lw_S q2046 q1961 q110 q1962) hd_J7_checkIndex ⟨(Nat.le_of_ble_eq_true rfl), (Nat.le_of_ble_eq_true rfl)⟩ rfl hl.1 rfl (zw_le zw_nil (Nat.le_of_ble_eq_true rfl)) dJ5_charAt_26) (fun _ => ?_)
  refine rk_ite (fun _ _ _ _ _ k1 k2 => lv_iload_n hx hb dJ5_charAt_29 rfl (lv_at hl 2 rfl) (lv_if_ne (tgt := 42) hx hb dJ5_charAt_30 (by decide) k2 k1)) (fun c_30 => ?_) (fun c_30 => ?_)
  · refine rk_of (fun _ _ _ _ _ k => lr_aload_n hx hb dJ5_charAt_33 rfl (lv_at hl 1 rfl) (lv_iload_n hx hb dJ5_charAt_34 rfl (lv_at hl 3 rfl) k)) ?_
    refine rk_bald C dJ5_charAt_35 (fun v35 => ?_)
    refine rk_of (fun _ _ _ _ _ k => lv_sipush (v := 255) hx hb dJ5_charAt_36 rfl (lv_iand hx hb dJ5_charAt_39 (lv_i2c hx hb dJ5_charAt_40 rfl k))) ?_
    refine rk_grd (fun hg_41 => ?_)
    exact rk_top (rf_iret C (zn_C hg_41) dJ5_charAt_41)
  · refine rk_of (fun _ _ _ _ _ k => lr_aload_n hx hb dJ5_charAt_42 rfl (lv_at hl 1 rfl) (lv_iload_n hx hb dJ5_charAt_43 rfl (lv_at hl 3 rfl) k)) ?_
    refine rk_callI hX (cl_S (rest := []) C (ct_J8_getChar H v6 a1) (lw_S q2047 q642 q111 q643) hd_J8_getChar ⟨(Nat.le_of_ble_eq_true rfl), (Nat.le_of_ble_eq_true rfl)⟩ rfl hl.1 rfl (zw_le zw_nil (Nat.le_of_ble_eq_true rfl)) dJ5_charAt_44) (fun v44 => ?_)
    refine rk_grd (fun hg_47 => ?_)
    exact rk_top (rf_iret C (zn_C hg_47) dJ5_charAt_47)
theorem hd_J6_charAt : yJ6_charAt.cls ≠ "java/lang/invoke/MethodHandle" ∧ yJ6_charAt.cls ≠ "java/lang/invoke/VarHandle" ∧ (parseMethodDescriptor yJ6_charAt.desc).map (fun d => d.parameters.length) = some 1 := by decide +kernel
noncomputable def fn_J6_charAt (K : zm_K) (a0 : zm_R) (a1 : Int32) : zm_M Int32 :=
  zm_bnd (zm_bnd (zm_is a0 2) fun _ => fn_J5_charAt K a0 a1) fun v2 =>
  zm_bnd (zm_grd ((0 : Int32) ≤ v2 ∧ v2 ≤ 65535)) fun _ =>
  zm_ret v2
theorem ct_J6_charAt {l : Launch} {Ω : zm_W} {K : zm_K} (H : zm_H Ω K) (a0 : zm_R) (a1 : Int32) : zm_Ct l Ω yJ6_charAt (ws_ yJ6_charAt cJ6_charAt 2 (Option.some Jvm.ClassFile.FieldType.char)) 5 152 [va_rf a0, .int a1] zm_tvI (fn_J6_charAt K a0 a1) := by
  refine zm_ct H.1 (by decide +kernel) (zl_le (zl_R (zl_I zl_nil)) (Nat.le_of_ble_eq_true rfl)) ?_
  intro p e R s m args below meth c n0 k0 C hX ls hl
  have hx := C.1
  have hb := C.2.1
  simp only [zg_I, zg_R, zg_nil] at hl
  have hl : lv_has ls 2 [(0, va_rf a0), (1, .int a1)] := hl
  refine rk_rf ?_
  unfold fn_J6_charAt
  refine rk_of (fun _ _ _ _ _ k => lr_aload_n hx hb dJ6_charAt_0 rfl (lv_at hl 0 rfl) (lv_iload_n hx hb dJ6_charAt_1 rfl (lv_at hl 1 rfl) k)) ?_
  refine rk_callI hX (cl_SU (n := 1) (rest := []) (av := [.int a1]) C (hc_J6 H) (ct_J5_charAt H a0 a1) (lw_SU q2042 q3089 q268 q2043 q108 q2044) (by decide +kernel) ⟨(Nat.le_of_ble_eq_true rfl), (Nat.le_of_ble_eq_true rfl)⟩ rfl hl.1 rfl (zw_le zw_nil (Nat.le_of_ble_eq_true rfl)) dJ6_charAt_2) (fun v2 => ?_)
  refine rk_grd (fun hg_5 => ?_)
  exact rk_top (rf_iret C (zn_C hg_5) dJ6_charAt_5)
theorem hd_X11_here : yX11_here.cls ≠ "java/lang/invoke/MethodHandle" ∧ yX11_here.cls ≠ "java/lang/invoke/VarHandle" ∧ (parseMethodDescriptor yX11_here.desc).map (fun d => d.parameters.length) = some 0 := by decide +kernel
noncomputable def fn_X11_here (K : zm_K) (a0 : zm_R) : zm_M Int32 :=
  zm_bnd (zm_getI a0 27 1) fun v1 =>
  zm_bnd (zm_getR a0 27 0) fun v5 =>
  zm_bnd (zm_bnd (zm_cls v5) fun ci => if ci = 3 then fn_J7_length K v5 else if ci = 2 then fn_J6_length K v5 else zm_fl) fun v8 =>
  if v8 ≤ v1 then
    zm_ret 10
  else
    zm_bnd (zm_getR a0 27 0) fun v17 =>
    zm_bnd (zm_getI a0 27 1) fun v21 =>
    zm_bnd (zm_bnd (zm_cls v17) fun ci => if ci = 3 then fn_J7_charAt K v17 v21 else if ci = 2 then fn_J6_charAt K v17 v21 else zm_fl) fun v24 =>
    zm_bnd (zm_grd ((0 : Int32) ≤ v24 ∧ v24 ≤ 65535)) fun _ =>
    zm_ret v24
theorem ct_X11_here {l : Launch} {Ω : zm_W} {K : zm_K} (H : zm_H Ω K) (a0 : zm_R) : zm_Ct l Ω yX11_here (ws_ yX11_here cX11_here 1 (Option.some Jvm.ClassFile.FieldType.char)) 6 173 [va_rf a0] zm_tvI (fn_X11_here K a0) := by
  refine zm_ct H.1 (by decide +kernel) (zl_le (zl_R zl_nil) (Nat.le_of_ble_eq_true rfl)) ?_
  intro p e R s m args below meth c n0 k0 C hX ls hl
  have hx := C.1
  have hb := C.2.1
  simp only [zg_R, zg_nil] at hl
  have hl : lv_has ls 1 [(0, va_rf a0)] := hl
  refine rk_rf ?_
  unfold fn_X11_here
  refine rk_of (fun _ _ _ _ _ k => lr_aload_n hx hb dX11_here_0 rfl (lv_at hl 0 rfl) k) ?_
  refine rk_get zm_rdI_eq C (hc_X11 H) (k := 1) (Nat.le_of_ble_eq_true rfl) in_X11 q1979 (fun _ h => h) dX11_here_1 (fun v1 => ?_)
  refine rk_of (fun _ _ _ _ _ k => lr_aload_n hx hb dX11_here_4 rfl (lv_at hl 0 rfl) k) ?_
  refine rk_get zm_rdR_eq C (hc_X11 H) (k := 0) (Nat.le_of_ble_eq_true rfl) in_X11 q1978 (fun _ h => h) dX11_here_5 (fun v5 => ?_)
  refine rk_callI hX (cl_dsp (fun ci => cl_case (cl_F (n := 0) (rest := [.int v1]) (av := []) C (hc_J7 H) (ct_J7_length H v5) (lw_F q2006 q2010 q491 q110 q493) (zh_Fw H C (by decide) q2008 q2007 q2012 q2011 q2009) (by decide +kernel) ⟨(Nat.le_of_ble_eq_true rfl), (Nat.le_of_ble_eq_true rfl)⟩ rfl hl.1 rfl (zw_le (zw_I zw_nil) (Nat.le_of_ble_eq_true rfl)) dX11_here_8) (cl_case (cl_F (n := 0) (rest := [.int v1]) (av := []) C (hc_J6 H) (ct_J6_length H v5) (lw_F q2006 q2014 q581 q109 q582) (zh_Fw H C (by decide) q2008 q2007 q2016 q2015 q2013) (by decide +kernel) ⟨(Nat.le_of_ble_eq_true rfl), (Nat.le_of_ble_eq_true rfl)⟩ rfl hl.1 rfl (zw_le (zw_I zw_nil) (Nat.le_of_ble_eq_true rfl)) dX11_here_8) (cl_fl)))) (fun v8 => ?_)
  refine rk_ite (fun _ _ _ _ _ k1 k2 => lv_icmp_ge (tgt := 32) hx hb dX11_here_13 (by decide) k1 k2) (fun c_13 => ?_) (fun c_13 => ?_)
  · refine rk_of (fun _ _ _ _ _ k => lv_bipush (v := 10) hx hb dX11_here_32 rfl k) ?_
    exact rk_top (rf_iret C rfl dX11_here_34)
  · refine rk_of (fun _ _ _ _ _ k => lr_aload_n hx hb dX11_here_16 rfl (lv_at hl 0 rfl) k) ?_
    refine rk_get zm_rdR_eq C (hc_X11 H) (k := 0) (Nat.le_of_ble_eq_true rfl) in_X11 q1978 (fun _ h => h) dX11_here_17 (fun v17 => ?_)
    refine rk_of (fun _ _ _ _ _ k => lr_aload_n hx hb dX11_here_20 rfl (lv_at hl 0 rfl) k) ?_
    refine rk_get zm_rdI_eq C (hc_X11 H) (k := 1) (Nat.le_of_ble_eq_true rfl) in_X11 q1979 (fun _ h => h) dX11_here_21 (fun v21 => ?_)
    refine rk_callI hX (cl_dsp (fun ci => cl_case (cl_F (n := 1) (rest := []) (av := [.int v21]) C (hc_J7 H) (ct_J7_charAt H v17 v21) (lw_F q2018 q2021 q2023 q110 q2025) (zh_Fw H C (by decide) q2020 q2019 q2024 q2022 q2009) (by decide +kernel) ⟨(Nat.le_of_ble_eq_true rfl), (Nat.le_of_ble_eq_true rfl)⟩ rfl hl.1 rfl (zw_le zw_nil (Nat.le_of_ble_eq_true rfl)) dX11_here_24) (cl_case (cl_F (n := 1) (rest := []) (av := [.int v21]) C (hc_J6 H) (ct_J6_charAt H v17 v21) (lw_F q2018 q2037 q2039 q109 q2041) (zh_Fw H C (by decide) q2020 q2019 q2040 q2038 q2013) (by decide +kernel) ⟨(Nat.le_of_ble_eq_true rfl), (Nat.le_of_ble_eq_true rfl)⟩ rfl hl.1 rfl (zw_le zw_nil (Nat.le_of_ble_eq_true rfl)) dX11_here_24) (cl_fl)))) (fun v24 => ?_)
    refine rk_of (fun _ _ _ _ _ k => lv_goto (tgt := 34) hx hb dX11_here_29 (by decide) k) ?_
    refine rk_grd (fun hg_34 => ?_)
    exact rk_top (rf_iret C (zn_C hg_34) dX11_here_34)
theorem hd_J14_stringSize : yJ14_stringSize.cls ≠ "java/lang/invoke/MethodHandle" ∧ yJ14_stringSize.cls ≠ "java/lang/invoke/VarHandle" ∧ (parseMethodDescriptor yJ14_stringSize.desc).map (fun d => d.parameters.length) = some 1 := by decide +kernel
noncomputable def fn_J14_stringSize_16 (K : zm_K) (p0 : Int32) (p1 : Int32) : Nat → Int32 → Int32 → zm_M ((Unit) ⊕ (Int32))
  | 0, _, _ => zm_fl
  | n + 1, x2, x3 =>
    if 10 ≤ x3 then
      zm_ret (Sum.inl ())
    else
      if p0 ≤ x2 then
        fn_J14_stringSize_16 K p0 p1 n (10 * x2) (x3 + 1)
      else
        zm_ret (Sum.inr (x3 + p1))
noncomputable def fn_J14_stringSize (K : zm_K) (a0 : Int32) : zm_M Int32 :=
  zm_bnd (α := Int32 × Int32) (
      if a0 < 0 then
        zm_ret (a0, 1)
      else
        zm_ret (-a0, 0)
    ) fun b11 =>
  zm_bnx (β := Unit) (fn_J14_stringSize_16 K b11.1 b11.2 zm_N (-10) 1) fun (_ : Unit) =>
  zm_ret (10 + b11.2)
theorem rf_J14_stringSize_16 (H : zm_H Ω K) (C : zm_C p l R s m args meth c Ω lw_all cJ14_stringSize yJ14_stringSize.cls yJ14_stringSize.name 4 1 64 (Option.some Jvm.ClassFile.FieldType.int)) (hX : zm_XO p l e R s m args below meth c Ω n0 k0 (zm_QFs below args s Ω n0 k0 zm_tvI)) (p0 : Int32) (p1 : Int32) : ∀ (n : Nat) (x2 : Int32) (x3 : Int32) (J : ((Unit) ⊕ (Int32)) → zm_M Int32) (ls : Array Slot), lv_has ls 4 [(0, .int p0), (1, .int p1), (2, .int x2), (3, .int x3)] → (∀ (b : Unit) (ls : Array Slot), lv_has ls 4 [(1, .int p1)] → zm_RK p l e R s m args below meth c Ω n0 k0 (zm_QFs below args s Ω n0 k0 zm_tvI) (zm_ret (Sum.inl b)) J (F0 m 42 ls [])) → (∀ (v : Int32) (g : JFrame), zm_RF p l e R s m args below meth c Ω n0 k0 (zm_QFs below args s Ω n0 k0 zm_tvI) (zm_ret v) g → zm_RK p l e R s m args below meth c Ω n0 k0 (zm_QFs below args s Ω n0 k0 zm_tvI) (zm_ret (Sum.inr v)) J g) → zm_RK p l e R s m args below meth c Ω n0 k0 (zm_QFs below args s Ω n0 k0 zm_tvI) (fn_J14_stringSize_16 K p0 p1 n x2 x3) J (F0 m 16 ls []) := by
  have hx := C.1
  have hb := C.2.1
  intro n
  induction n with
  | zero => intro x2 x3 J ls hl hJ hR; exact rk_fl
  | succ n ih =>
    intro x2 x3 J ls hl hJ hR
    unfold fn_J14_stringSize_16
    refine rk_ite (fun _ _ _ _ _ k1 k2 => lv_iload_n hx hb dJ14_stringSize_16 rfl (lv_at hl 3 rfl) (lv_bipush (v := 10) hx hb dJ14_stringSize_17 rfl (lv_icmp_ge (tgt := 42) hx hb dJ14_stringSize_19 (by decide) k1 k2))) (fun c_19 => ?_) (fun c_19 => ?_)
    · exact hJ () ls (lv_sub hl [1] rfl)
    · refine rk_ite (fun _ _ _ _ _ k1 k2 => lv_iload_n hx hb dJ14_stringSize_22 rfl (lv_at hl 0 rfl) (lv_iload_n hx hb dJ14_stringSize_23 rfl (lv_at hl 2 rfl) (lv_icmp_le (tgt := 31) hx hb dJ14_stringSize_24 (by decide) k1 k2))) (fun c_24 => ?_) (fun c_24 => ?_)
      · refine rk_ofs (fun _ _ _ _ _ k => lv_bipush (v := 10) hx hb dJ14_stringSize_31 rfl (lv_iload_n hx hb dJ14_stringSize_33 rfl (lv_at hl 2 rfl) (lv_imul hx hb dJ14_stringSize_34 (lr_istore_n hx hb dJ14_stringSize_35 rfl hl (Nat.le_of_ble_eq_true rfl) [0, 1, 3] rfl ⟨trivial, ⟨rfl, ⟨trivial, trivial⟩⟩⟩ k)))) (fun ls hl => ?_)
        refine rk_ofs (fun _ _ _ _ _ k => lr_iinc (v := x3 + 1) hx hb dJ14_stringSize_36 hl (k := 3) rfl rfl (Nat.le_of_ble_eq_true rfl) [0, 1, 2] rfl ⟨rfl, ⟨trivial, ⟨trivial, trivial⟩⟩⟩ k) (fun ls hl => ?_)
        refine rk_of (fun _ _ _ _ _ k => lv_goto (tgt := 16) hx hb dJ14_stringSize_39 (by decide) k) ?_
        exact ih (10 * x2) (x3 + 1) J ls (lv_sub hl [2, 3, 1, 0] rfl) hJ hR
      · refine rk_of (fun _ _ _ _ _ k => lv_iload_n hx hb dJ14_stringSize_27 rfl (lv_at hl 3 rfl) (lv_iload_n hx hb dJ14_stringSize_28 rfl (lv_at hl 1 rfl) (lv_iadd hx hb dJ14_stringSize_29 k))) ?_
        exact hR _ _ (rf_iret C rfl dJ14_stringSize_30)
theorem ct_J14_stringSize {l : Launch} {Ω : zm_W} {K : zm_K} (H : zm_H Ω K) (a0 : Int32) : zm_Ct l Ω yJ14_stringSize (ws_ yJ14_stringSize cJ14_stringSize 4 (Option.some Jvm.ClassFile.FieldType.int)) 1 64 [.int a0] zm_tvI (fn_J14_stringSize K a0) := by
  refine zm_ct H.1 (by decide +kernel) (zl_le (zl_I zl_nil) (Nat.le_of_ble_eq_true rfl)) ?_
  intro p e R s m args below meth c n0 k0 C hX ls hl
  have hx := C.1
  have hb := C.2.1
  simp only [zg_I, zg_nil] at hl
  have hl : lv_has ls 4 [(0, .int a0)] := hl
  refine rk_rf ?_
  unfold fn_J14_stringSize
  refine rk_ofs (fun _ _ _ _ _ k => lv_iconst (v := 1) hx hb dJ14_stringSize_0 rfl (lr_istore_n hx hb dJ14_stringSize_1 rfl hl (Nat.le_of_ble_eq_true rfl) [0] rfl ⟨rfl, trivial⟩ k)) (fun ls hl => ?_)
  refine rk_of (fun _ _ _ _ _ k => lv_iload_n hx hb dJ14_stringSize_2 rfl (lv_at hl 1 rfl) k) ?_
  refine rk_join (β := Int32 × Int32) (fun (b11 : Int32 × Int32) ls => lv_has ls 4 [(0, .int b11.1), (1, .int b11.2)]) (fun (b11 : Int32 × Int32) ls => F0 m 11 ls []) (fun b11 ls hl => ?_) (fun hJ11 => ?_)
  · refine rk_ofs (fun _ _ _ _ _ k => lv_bipush (v := (-10)) hx hb dJ14_stringSize_11 rfl (lr_istore_n hx hb dJ14_stringSize_13 rfl hl (Nat.le_of_ble_eq_true rfl) [0, 1] rfl ⟨trivial, ⟨rfl, trivial⟩⟩ k)) (fun ls hl => ?_)
    refine rk_ofs (fun _ _ _ _ _ k => lv_iconst (v := 1) hx hb dJ14_stringSize_14 rfl (lr_istore_n hx hb dJ14_stringSize_15 rfl hl (Nat.le_of_ble_eq_true rfl) [0, 1, 2] rfl ⟨rfl, ⟨trivial, ⟨trivial, trivial⟩⟩⟩ k)) (fun ls hl => ?_)
    refine rk_joinx (β := Unit) (fun (b42 : Unit) ls => lv_has ls 4 [(1, .int b11.2)]) (fun (b42 : Unit) ls => F0 m 42 ls []) (fun b42 ls hl => ?_) (fun hJ42 => ?_)
    · refine rk_of (fun _ _ _ _ _ k => lv_bipush (v := 10) hx hb dJ14_stringSize_42 rfl (lv_iload_n hx hb dJ14_stringSize_44 rfl (lv_at hl 0 rfl) (lv_iadd hx hb dJ14_stringSize_45 k))) ?_
      exact rk_top (rf_iret C rfl dJ14_stringSize_46)
    · exact rf_J14_stringSize_16 H C hX b11.1 b11.2 zm_N (-10) 1 _ ls (lv_sub hl [2, 3, 1, 0] rfl) hJ42 (fun v g k9 => by
        refine rk_inr ?_
        exact rk_top (k9))
  · refine rk_ite (fun _ _ _ _ _ k1 k2 => lv_if_lt (tgt := 11) hx hb dJ14_stringSize_3 (by decide) k1 k2) (fun c_3 => ?_) (fun c_3 => ?_)
    · exact hJ11 (a0, 1) ls (lv_sub hl [1, 0] rfl)
    · refine rk_ofs (fun _ _ _ _ _ k => lv_iconst (v := 0) hx hb dJ14_stringSize_6 rfl (lr_istore_n hx hb dJ14_stringSize_7 rfl hl (Nat.le_of_ble_eq_true rfl) [1] rfl ⟨rfl, trivial⟩ k)) (fun ls hl => ?_)
      refine rk_ofs (fun _ _ _ _ _ k => lv_iload_n hx hb dJ14_stringSize_8 rfl (lv_at hl 1 rfl) (lv_ineg hx hb dJ14_stringSize_9 (lr_istore_n hx hb dJ14_stringSize_10 rfl hl (Nat.le_of_ble_eq_true rfl) [0] rfl ⟨trivial, trivial⟩ k))) (fun ls hl => ?_)
      exact hJ11 (-a0, 0) ls (lv_sub hl [0, 1] rfl)
theorem hd_J14_getChars : yJ14_getChars.cls ≠ "java/lang/invoke/MethodHandle" ∧ yJ14_getChars.cls ≠ "java/lang/invoke/VarHandle" ∧ (parseMethodDescriptor yJ14_getChars.desc).map (fun d => d.parameters.length) = some 3 := by decide +kernel
noncomputable def fn_J14_getChars_22 (K : zm_K) (p2 : zm_R) (p6 : Int32) : Nat → Int32 → Int32 → zm_M (Int32 × Int32)
  | 0, _, _ => zm_fl
  | n + 1, x0, x5 =>
    if (-100) < x0 then
      zm_ret (x0, x5)
    else
      zm_bnd (zm_grd (¬ (100 : Int32) = 0)) fun _ =>
      zm_bnd (zm_aldI .byte (K.2 0) (((x0 / 100) * 100) - x0)) fun v54 =>
      zm_bnd (zm_astI K .byte p2 (x5 + (-1)) v54) fun _ =>
      zm_bnd (zm_aldI .byte (K.2 1) (((x0 / 100) * 100) - x0)) fun v67 =>
      zm_bnd (zm_astI K .byte p2 ((x5 + (-1)) + (-1)) v67) fun _ =>
      fn_J14_getChars_22 K p2 p6 n (x0 / 100) ((x5 + (-1)) + (-1))
noncomputable def fn_J14_getChars (K : zm_K) (a0 : Int32) (a1 : Int32) (a2 : zm_R) : zm_M Int32 :=
  zm_bnd (α := Int32) (
      if 0 ≤ a0 then
        zm_ret 0
      else
        zm_ret 1
    ) fun b12 =>
  zm_bnd (α := Int32) (
      if b12 = 0 then
        zm_ret (-a0)
      else
        zm_ret a0
    ) fun b22 =>
  zm_bnd (α := Int32 × Int32) (fn_J14_getChars_22 K a2 b12 zm_N b22 a1) fun b72 =>
  zm_bnd (zm_aldI .byte (K.2 0) (-b72.1)) fun v83 =>
  zm_bnd (zm_astI K .byte a2 (b72.2 + (-1)) v83) fun _ =>
  zm_bnd (α := Int32) (
      if (-9) ≤ b72.1 then
        zm_ret (b72.2 + (-1))
      else
        zm_bnd (zm_aldI .byte (K.2 1) (-b72.1)) fun v102 =>
        zm_bnd (zm_astI K .byte a2 ((b72.2 + (-1)) + (-1)) v102) fun _ =>
        zm_ret ((b72.2 + (-1)) + (-1))
    ) fun b104 =>
  if b12 = 0 then
    zm_ret b104
  else
    zm_bnd (zm_astI K .byte a2 (b104 + (-1)) 45) fun _ =>
    zm_ret (b104 + (-1))
theorem rf_J14_getChars_22 (H : zm_H Ω K) (C : zm_C p l R s m args meth c Ω lw_all cJ14_getChars yJ14_getChars.cls yJ14_getChars.name 7 1 64 (Option.some Jvm.ClassFile.FieldType.int)) (hX : zm_XO p l e R s m args below meth c Ω n0 k0 (zm_QFs below args s Ω n0 k0 zm_tvI)) (p2 : zm_R) (p6 : Int32) : ∀ (n : Nat) (x0 : Int32) (x5 : Int32) (J : (Int32 × Int32) → zm_M Int32) (ls : Array Slot), lv_has ls 7 [(2, va_rf p2), (6, .int p6), (0, .int x0), (5, .int x5)] → (∀ (b : Int32 × Int32) (ls : Array Slot), lv_has ls 7 [(2, va_rf p2), (6, .int p6), (0, .int b.1), (5, .int b.2)] → zm_RK p l e R s m args below meth c Ω n0 k0 (zm_QFs below args s Ω n0 k0 zm_tvI) (zm_ret b) J (F0 m 72 ls [])) → zm_RK p l e R s m args below meth c Ω n0 k0 (zm_QFs below args s Ω n0 k0 zm_tvI) (fn_J14_getChars_22 K p2 p6 n x0 x5) J (F0 m 22 ls []) := by
  have hx := C.1
  have hb := C.2.1
  intro n
  induction n with
  | zero => intro x0 x5 J ls hl hJ; exact rk_fl
  | succ n ih =>
    intro x0 x5 J ls hl hJ
    unfold fn_J14_getChars_22
    refine rk_ite (fun _ _ _ _ _ k1 k2 => lv_iload_n hx hb dJ14_getChars_22 rfl (lv_at hl 2 rfl) (lv_bipush (v := (-100)) hx hb dJ14_getChars_23 rfl (lv_icmp_gt (tgt := 72) hx hb dJ14_getChars_25 (by decide) k1 k2))) (fun c_25 => ?_) (fun c_25 => ?_)
    · exact hJ (x0, x5) ls (lv_sub hl [0, 1, 2, 3] rfl)
    · refine rk_of (fun _ _ _ _ _ k => lv_iload_n hx hb dJ14_getChars_28 rfl (lv_at hl 2 rfl) (lv_bipush (v := 100) hx hb dJ14_getChars_29 rfl k)) ?_
      refine rk_grd (fun hg_31 => ?_)
      refine rk_ofs (fun _ _ _ _ _ k => lv_idiv hx hb dJ14_getChars_31 hg_31 (lr_istore_n hx hb dJ14_getChars_32 rfl hl (Nat.le_of_ble_eq_true rfl) [0, 1, 2, 3] rfl ⟨(by first | exact va_rf_cat _ | rfl), ⟨trivial, ⟨trivial, ⟨trivial, trivial⟩⟩⟩⟩ k)) (fun ls hl => ?_)
      refine rk_ofs (fun _ _ _ _ _ k => lv_iload_n hx hb dJ14_getChars_33 rfl (lv_at hl 0 rfl) (lv_bipush (v := 100) hx hb dJ14_getChars_34 rfl (lv_imul hx hb dJ14_getChars_36 (lv_iload_n hx hb dJ14_getChars_37 rfl (lv_at hl 3 rfl) (lv_isub hx hb dJ14_getChars_38 (lr_istore hx hb dJ14_getChars_39 hl (Nat.le_of_ble_eq_true rfl) [0, 1, 2, 4] rfl ⟨rfl, ⟨trivial, ⟨trivial, ⟨trivial, trivial⟩⟩⟩⟩ k)))))) (fun ls hl => ?_)
      refine rk_ofs (fun _ _ _ _ _ k => lv_iload_n hx hb dJ14_getChars_41 rfl (lv_at hl 1 rfl) (lr_istore_n hx hb dJ14_getChars_42 rfl hl (Nat.le_of_ble_eq_true rfl) [0, 2, 3, 4] rfl ⟨trivial, ⟨trivial, ⟨trivial, ⟨trivial, trivial⟩⟩⟩⟩ k)) (fun ls hl => ?_)
      refine rk_ofs (fun _ _ _ _ _ k => lr_aload_n hx hb dJ14_getChars_43 rfl (lv_at hl 2 rfl) (lr_iinc (v := x5 + (-1)) hx hb dJ14_getChars_44 hl (k := 4) rfl rfl (Nat.le_of_ble_eq_true rfl) [0, 1, 2, 3] rfl ⟨trivial, ⟨rfl, ⟨trivial, ⟨trivial, trivial⟩⟩⟩⟩ k)) (fun ls hl => ?_)
      refine rk_of (fun _ _ _ _ _ k => lv_iload hx hb dJ14_getChars_47 (lv_at hl 0 rfl) k) ?_
      refine rk_gets C (zh_st0 H) q546 (fun _ h => h) dJ14_getChars_49 ?_
      refine rk_of (fun _ _ _ _ _ k => lv_iload hx hb dJ14_getChars_52 (lv_at hl 2 rfl) k) ?_
      refine rk_bald C dJ14_getChars_54 (fun v54 => ?_)
      refine rk_bast C H.2.2.1 dJ14_getChars_55 ?_
      refine rk_ofs (fun _ _ _ _ _ k => lr_aload_n hx hb dJ14_getChars_56 rfl (lv_at hl 3 rfl) (lr_iinc (v := (x5 + (-1)) + (-1)) hx hb dJ14_getChars_57 hl (k := 0) rfl rfl (Nat.le_of_ble_eq_true rfl) [1, 2, 3, 4] rfl ⟨trivial, ⟨rfl, ⟨trivial, ⟨trivial, trivial⟩⟩⟩⟩ k)) (fun ls hl => ?_)
      refine rk_of (fun _ _ _ _ _ k => lv_iload hx hb dJ14_getChars_60 (lv_at hl 0 rfl) k) ?_
      refine rk_gets C (zh_st1 H) q548 (fun _ h => h) dJ14_getChars_62 ?_
      refine rk_of (fun _ _ _ _ _ k => lv_iload hx hb dJ14_getChars_65 (lv_at hl 2 rfl) k) ?_
      refine rk_bald C dJ14_getChars_67 (fun v67 => ?_)
      refine rk_bast C H.2.2.1 dJ14_getChars_68 ?_
      refine rk_of (fun _ _ _ _ _ k => lv_goto (tgt := 22) hx hb dJ14_getChars_69 (by decide) k) ?_
      exact ih (x0 / 100) ((x5 + (-1)) + (-1)) J ls (lv_sub hl [3, 4, 1, 0] rfl) hJ
theorem ct_J14_getChars {l : Launch} {Ω : zm_W} {K : zm_K} (H : zm_H Ω K) (a0 : Int32) (a1 : Int32) (a2 : zm_R) : zm_Ct l Ω yJ14_getChars (ws_ yJ14_getChars cJ14_getChars 7 (Option.some Jvm.ClassFile.FieldType.int)) 1 64 [.int a0, .int a1, va_rf a2] zm_tvI (fn_J14_getChars K a0 a1 a2) := by
  refine zm_ct H.1 (by decide +kernel) (zl_le (zl_I (zl_I (zl_R zl_nil))) (Nat.le_of_ble_eq_true rfl)) ?_
  intro p e R s m args below meth c n0 k0 C hX ls hl
  have hx := C.1
  have hb := C.2.1
  simp only [zg_I, zg_R, zg_nil] at hl
  have hl : lv_has ls 7 [(0, .int a0), (1, .int a1), (2, va_rf a2)] := hl
  refine rk_rf ?_
  unfold fn_J14_getChars
  refine rk_ofs (fun _ _ _ _ _ k => lv_iload_n hx hb dJ14_getChars_0 rfl (lv_at hl 1 rfl) (lr_istore hx hb dJ14_getChars_1 hl (Nat.le_of_ble_eq_true rfl) [0, 2] rfl ⟨trivial, ⟨trivial, trivial⟩⟩ k)) (fun ls hl => ?_)
  refine rk_of (fun _ _ _ _ _ k => lv_iload_n hx hb dJ14_getChars_3 rfl (lv_at hl 1 rfl) k) ?_
  refine rk_join (β := Int32) (fun (b12 : Int32) ls => lv_has ls 7 [(0, .int a0), (2, va_rf a2), (5, .int a1)]) (fun (b12 : Int32) ls => F0 m 12 ls [.int b12]) (fun b12 ls hl => ?_) (fun hJ12 => ?_)
  · refine rk_ofs (fun _ _ _ _ _ k => lr_istore hx hb dJ14_getChars_12 hl (Nat.le_of_ble_eq_true rfl) [0, 1, 2] rfl ⟨trivial, ⟨trivial, ⟨rfl, trivial⟩⟩⟩ k) (fun ls hl => ?_)
    refine rk_of (fun _ _ _ _ _ k => lv_iload hx hb dJ14_getChars_14 (lv_at hl 0 rfl) k) ?_
    refine rk_join (β := Int32) (fun (b22 : Int32) ls => lv_has ls 7 [(0, .int b22), (2, va_rf a2), (5, .int a1), (6, .int b12)]) (fun (b22 : Int32) ls => F0 m 22 ls []) (fun b22 ls hl => ?_) (fun hJ22 => ?_)
    · refine rk_join (β := Int32 × Int32) (fun (b72 : Int32 × Int32) ls => lv_has ls 7 [(2, va_rf a2), (6, .int b12), (0, .int b72.1), (5, .int b72.2)]) (fun (b72 : Int32 × Int32) ls => F0 m 72 ls []) (fun b72 ls hl => ?_) (fun hJ72 => ?_)
      · refine rk_ofs (fun _ _ _ _ _ k => lr_aload_n hx hb dJ14_getChars_72 rfl (lv_at hl 0 rfl) (lr_iinc (v := b72.2 + (-1)) hx hb dJ14_getChars_73 hl (k := 3) rfl rfl (Nat.le_of_ble_eq_true rfl) [0, 1, 2] rfl ⟨trivial, ⟨trivial, ⟨trivial, trivial⟩⟩⟩ k)) (fun ls hl => ?_)
        refine rk_of (fun _ _ _ _ _ k => lv_iload hx hb dJ14_getChars_76 (lv_at hl 0 rfl) k) ?_
        refine rk_gets C (zh_st0 H) q546 (fun _ h => h) dJ14_getChars_78 ?_
        refine rk_of (fun _ _ _ _ _ k => lv_iload_n hx hb dJ14_getChars_81 rfl (lv_at hl 3 rfl) (lv_ineg hx hb dJ14_getChars_82 k)) ?_
        refine rk_bald C dJ14_getChars_83 (fun v83 => ?_)
        refine rk_bast C H.2.2.1 dJ14_getChars_84 ?_
        refine rk_of (fun _ _ _ _ _ k => lv_iload_n hx hb dJ14_getChars_85 rfl (lv_at hl 3 rfl) (lv_bipush (v := (-9)) hx hb dJ14_getChars_86 rfl k)) ?_
        refine rk_join (β := Int32) (fun (b104 : Int32) ls => lv_has ls 7 [(2, va_rf a2), (5, .int b104), (6, .int b12)]) (fun (b104 : Int32) ls => F0 m 104 ls []) (fun b104 ls hl => ?_) (fun hJ104 => ?_)
        · refine rk_ite (fun _ _ _ _ _ k1 k2 => lv_iload hx hb dJ14_getChars_104 (lv_at hl 2 rfl) (lv_if_eq (tgt := 118) hx hb dJ14_getChars_106 (by decide) k1 k2)) (fun c_106 => ?_) (fun c_106 => ?_)
          · refine rk_of (fun _ _ _ _ _ k => lv_iload hx hb dJ14_getChars_118 (lv_at hl 1 rfl) k) ?_
            exact rk_top (rf_iret C rfl dJ14_getChars_120)
          · refine rk_ofs (fun _ _ _ _ _ k => lr_aload_n hx hb dJ14_getChars_109 rfl (lv_at hl 0 rfl) (lr_iinc (v := b104 + (-1)) hx hb dJ14_getChars_110 hl (k := 1) rfl rfl (Nat.le_of_ble_eq_true rfl) [] rfl trivial k)) (fun ls hl => ?_)
            refine rk_of (fun _ _ _ _ _ k => lv_iload hx hb dJ14_getChars_113 (lv_at hl 0 rfl) (lv_bipush (v := 45) hx hb dJ14_getChars_115 rfl k)) ?_
            refine rk_bast C H.2.2.1 dJ14_getChars_117 ?_
            refine rk_of (fun _ _ _ _ _ k => lv_iload hx hb dJ14_getChars_118 (lv_at hl 0 rfl) k) ?_
            exact rk_top (rf_iret C rfl dJ14_getChars_120)
        · refine rk_ite (fun _ _ _ _ _ k1 k2 => lv_icmp_ge (tgt := 104) hx hb dJ14_getChars_88 (by decide) k1 k2) (fun c_88 => ?_) (fun c_88 => ?_)
          · exact hJ104 (b72.2 + (-1)) ls (lv_sub hl [1, 0, 2] rfl)
          · refine rk_ofs (fun _ _ _ _ _ k => lr_aload_n hx hb dJ14_getChars_91 rfl (lv_at hl 1 rfl) (lr_iinc (v := (b72.2 + (-1)) + (-1)) hx hb dJ14_getChars_92 hl (k := 0) rfl rfl (Nat.le_of_ble_eq_true rfl) [1, 2, 3] rfl ⟨trivial, ⟨trivial, ⟨trivial, trivial⟩⟩⟩ k)) (fun ls hl => ?_)
            refine rk_of (fun _ _ _ _ _ k => lv_iload hx hb dJ14_getChars_95 (lv_at hl 0 rfl) k) ?_
            refine rk_gets C (zh_st1 H) q548 (fun _ h => h) dJ14_getChars_97 ?_
            refine rk_of (fun _ _ _ _ _ k => lv_iload_n hx hb dJ14_getChars_100 rfl (lv_at hl 3 rfl) (lv_ineg hx hb dJ14_getChars_101 k)) ?_
            refine rk_bald C dJ14_getChars_102 (fun v102 => ?_)
            refine rk_bast C H.2.2.1 dJ14_getChars_103 ?_
            exact hJ104 ((b72.2 + (-1)) + (-1)) ls (lv_sub hl [1, 0, 2] rfl)
      · exact rf_J14_getChars_22 H C hX a2 b12 zm_N b22 a1 _ ls (lv_sub hl [1, 3, 0, 2] rfl) hJ72
    · refine rk_ite (fun _ _ _ _ _ k1 k2 => lv_if_ne (tgt := 22) hx hb dJ14_getChars_16 (by decide) k2 k1) (fun c_16 => ?_) (fun c_16 => ?_)
      · refine rk_ofs (fun _ _ _ _ _ k => lv_iload_n hx hb dJ14_getChars_19 rfl (lv_at hl 1 rfl) (lv_ineg hx hb dJ14_getChars_20 (lr_istore_n hx hb dJ14_getChars_21 rfl hl (Nat.le_of_ble_eq_true rfl) [0, 2, 3] rfl ⟨trivial, ⟨trivial, ⟨trivial, trivial⟩⟩⟩ k))) (fun ls hl => ?_)
        exact hJ22 (-a0) ls (lv_sub hl [0, 2, 3, 1] rfl)
      · exact hJ22 a0 ls (lv_sub hl [1, 2, 3, 0] rfl)
  · refine rk_ite (fun _ _ _ _ _ k1 k2 => lv_if_ge (tgt := 11) hx hb dJ14_getChars_4 (by decide) k1 k2) (fun c_4 => ?_) (fun c_4 => ?_)
    · refine rk_of (fun _ _ _ _ _ k => lv_iconst (v := 0) hx hb dJ14_getChars_11 rfl k) ?_
      exact hJ12 0 ls (lv_sub hl [1, 2, 0] rfl)
    · refine rk_of (fun _ _ _ _ _ k => lv_iconst (v := 1) hx hb dJ14_getChars_7 rfl (lv_goto (tgt := 12) hx hb dJ14_getChars_8 (by decide) k)) ?_
      exact hJ12 1 ls (lv_sub hl [1, 2, 0] rfl)
theorem hd_J7_init_3 : yJ7_init_3.cls ≠ "java/lang/invoke/MethodHandle" ∧ yJ7_init_3.cls ≠ "java/lang/invoke/VarHandle" ∧ (parseMethodDescriptor yJ7_init_3.desc).map (fun d => d.parameters.length) = some 2 := by decide +kernel
noncomputable def fn_J7_init_3 (K : zm_K) (a0 : zm_R) (a1 : zm_R) (a2 : Int32) : zm_M Unit :=
  zm_bnd (zm_grd (a0 ≠ none)) fun _ =>
  zm_bnd (zm_putF K a0 3 0 (va_rf a1)) fun _ =>
  zm_bnd (zm_grd (-128 ≤ a2 ∧ a2 ≤ 127)) fun _ =>
  zm_bnd (zm_putF K a0 3 1 (.int a2)) fun _ =>
  zm_ret ()
theorem ct_J7_init_3 {l : Launch} {Ω : zm_W} {K : zm_K} (H : zm_H Ω K) (a0 : zm_R) (a1 : zm_R) (a2 : Int32) : zm_Ct l Ω yJ7_init_3 (ws_ yJ7_init_3 cJ7_init_3 3 (Option.none : Option Jvm.ClassFile.FieldType)) 2 84 [va_rf a0, va_rf a1, .int a2] zm_tvV (fn_J7_init_3 K a0 a1 a2) := by
  refine zm_ct H.1 (by decide +kernel) (zl_le (zl_R (zl_R (zl_I zl_nil))) (Nat.le_of_ble_eq_true rfl)) ?_
  intro p e R s m args below meth c n0 k0 C hX ls hl
  have hx := C.1
  have hb := C.2.1
  simp only [zg_I, zg_R, zg_nil] at hl
  have hl : lv_has ls 3 [(0, va_rf a0), (1, va_rf a1), (2, .int a2)] := hl
  refine rk_rf ?_
  unfold fn_J7_init_3
  refine rk_of (fun _ _ _ _ _ k => lr_aload_n hx hb dJ7_init_3_0 rfl (lv_at hl 0 rfl) k) ?_
  refine rk_grd (fun hg_1 => ?_)
  refine rk_of (fun _ _ _ _ _ k => zo_init C hl.1 q571 q156 q157 hg_1 (Nat.le_of_ble_eq_true rfl) (zw_le12 zw_nil (Nat.le_of_ble_eq_true rfl)) dJ7_init_3_1 k) ?_
  refine rk_of (fun _ _ _ _ _ k => lr_aload_n hx hb dJ7_init_3_4 rfl (lv_at hl 0 rfl) (lr_aload_n hx hb dJ7_init_3_5 rfl (lv_at hl 1 rfl) k)) ?_
  refine rk_put C H.2.2.1 (hc_J7 H) (k := 0) (Nat.le_of_ble_eq_true rfl) in_J7 (ty0 := tyJ7) tyJ7_ok nmJ7 q648 (fun _ h => h) (Or.inr ⟨rfl, rfl, rfl⟩) (zn_R rfl _) (zp_R rfl _) dJ7_init_3_6 ?_
  refine rk_of (fun _ _ _ _ _ k => lr_aload_n hx hb dJ7_init_3_9 rfl (lv_at hl 0 rfl) (lv_iload_n hx hb dJ7_init_3_10 rfl (lv_at hl 2 rfl) k)) ?_
  refine rk_grd (fun hg_11 => ?_)
  refine rk_put C H.2.2.1 (hc_J7 H) (k := 1) (Nat.le_of_ble_eq_true rfl) in_J7 (ty0 := tyJ7) tyJ7_ok nmJ7 q649 (fun _ h => h) (Or.inr ⟨rfl, rfl, rfl⟩) (zn_B hg_11) (zp_B hg_11) dJ7_init_3_11 ?_
  exact rk_top (rf_vret C dJ7_init_3_14)
theorem hd_J14_toString_2 : yJ14_toString_2.cls ≠ "java/lang/invoke/MethodHandle" ∧ yJ14_toString_2.cls ≠ "java/lang/invoke/VarHandle" ∧ (parseMethodDescriptor yJ14_toString_2.desc).map (fun d => d.parameters.length) = some 1 := by decide +kernel
noncomputable def fn_J14_toString_2 (K : zm_K) (a0 : Int32) : zm_M zm_R :=
  zm_bnd (fn_J14_stringSize K a0) fun v1 =>
  if (1 : Int32) = 0 then
    zm_bnd (zm_newa .byte (.inl fun _ => 0) (v1 * 2)) fun v35 =>
    zm_fl
  else
    zm_bnd (zm_newa .byte (.inl fun _ => 0) v1) fun v12 =>
    zm_bnd (fn_J14_getChars K a0 v1 (some v12)) fun v18 =>
    zm_bnd (zm_new 3 [.null, .int 0, .int 0, .int 0]) fun v22 =>
    zm_bnd (fn_J7_init_3 K (some v22) (some v12) 0) fun _ =>
    zm_ret (some v22)
theorem ct_J14_toString_2 {l : Launch} {Ω : zm_W} {K : zm_K} (H : zm_H Ω K) (a0 : Int32) : zm_Ct l Ω yJ14_toString_2 (ws_ yJ14_toString_2 cJ14_toString_2 3 (Option.some (Jvm.ClassFile.FieldType.object "java/lang/String"))) 3 106 [.int a0] zm_tvR (fn_J14_toString_2 K a0) := by
  refine zm_ct H.1 (by decide +kernel) (zl_le (zl_I zl_nil) (Nat.le_of_ble_eq_true rfl)) ?_
  intro p e R s m args below meth c n0 k0 C hX ls hl
  have hx := C.1
  have hb := C.2.1
  simp only [zg_I, zg_nil] at hl
  have hl : lv_has ls 3 [(0, .int a0)] := hl
  refine rk_rf ?_
  unfold fn_J14_toString_2
  refine rk_of (fun _ _ _ _ _ k => lv_iload_n hx hb dJ14_toString_2_0 rfl (lv_at hl 0 rfl) k) ?_
  refine rk_callI hX (cl_S (rest := []) C (ct_J14_stringSize H a0) (lw_S q2086 q541 q119 q542) hd_J14_stringSize ⟨(Nat.le_of_ble_eq_true rfl), (Nat.le_of_ble_eq_true rfl)⟩ rfl hl.1 rfl (zw_le zw_nil (Nat.le_of_ble_eq_true rfl)) dJ14_toString_2_1) (fun v1 => ?_)
  refine rk_ofs (fun _ _ _ _ _ k => lr_istore_n hx hb dJ14_toString_2_4 rfl hl (Nat.le_of_ble_eq_true rfl) [0] rfl ⟨rfl, trivial⟩ k) (fun ls hl => ?_)
  refine rk_gets C (zh_it1 H) q2087 (fun _ h => h) dJ14_toString_2_5 ?_
  refine rk_ite (fun _ _ _ _ _ k1 k2 => lv_if_eq (tgt := 32) hx hb dJ14_toString_2_8 (by decide) k1 k2) (fun c_8 => ?_) (fun c_8 => ?_)
  · refine rk_of (fun _ _ _ _ _ k => lv_iload_n hx hb dJ14_toString_2_32 rfl (lv_at hl 0 rfl) (lv_iconst (v := 2) hx hb dJ14_toString_2_33 rfl (lv_imul hx hb dJ14_toString_2_34 k))) ?_
    refine rk_newa C (atype := .byte) rfl 2 rfl (fun _ _ h => h) (fun _ _ => rfl) q269 dJ14_toString_2_35 (fun v35 => ?_)
    refine rk_ofs (fun _ _ _ _ _ k => lr_astore_n hx hb dJ14_toString_2_37 rfl hl (Nat.le_of_ble_eq_true rfl) [0, 1] rfl ⟨rfl, ⟨trivial, trivial⟩⟩ k) (fun ls hl => ?_)
    refine rk_of (fun _ _ _ _ _ k => lv_iload_n hx hb dJ14_toString_2_38 rfl (lv_at hl 2 rfl) (lv_iload_n hx hb dJ14_toString_2_39 rfl (lv_at hl 1 rfl) (lr_aload_n hx hb dJ14_toString_2_40 rfl (lv_at hl 0 rfl) k))) ?_
    exact rk_fl
  · refine rk_of (fun _ _ _ _ _ k => lv_iload_n hx hb dJ14_toString_2_11 rfl (lv_at hl 0 rfl) k) ?_
    refine rk_newa C (atype := .byte) rfl 2 rfl (fun _ _ h => h) (fun _ _ => rfl) q269 dJ14_toString_2_12 (fun v12 => ?_)
    refine rk_ofs (fun _ _ _ _ _ k => lr_astore_n hx hb dJ14_toString_2_14 rfl hl (Nat.le_of_ble_eq_true rfl) [0, 1] rfl ⟨rfl, ⟨trivial, trivial⟩⟩ k) (fun ls hl => ?_)
    refine rk_of (fun _ _ _ _ _ k => lv_iload_n hx hb dJ14_toString_2_15 rfl (lv_at hl 2 rfl) (lv_iload_n hx hb dJ14_toString_2_16 rfl (lv_at hl 1 rfl) (lr_aload_n hx hb dJ14_toString_2_17 rfl (lv_at hl 0 rfl) k))) ?_
    refine rk_callI hX (cl_S (rest := []) C (ct_J14_getChars H a0 v1 (some v12)) (lw_S q2088 q544 q119 q545) hd_J14_getChars ⟨(Nat.le_of_ble_eq_true rfl), (Nat.le_of_ble_eq_true rfl)⟩ rfl hl.1 rfl (zw_le zw_nil (Nat.le_of_ble_eq_true rfl)) dJ14_toString_2_18) (fun v18 => ?_)
    refine rk_of (fun _ _ _ _ _ k => lv_pop hx hb dJ14_toString_2_21 rfl k) ?_
    refine rk_new C (hc_J7 H) in_J7 tyJ7_ok q2089 q564 q110 (fs := [.null, .int 0, .int 0, .int 0]) rfl (fun j hj => zdf_J7 j hj) dJ14_toString_2_22 (fun v22 => ?_)
    refine rk_of (fun _ _ _ _ _ k => lv_dup hx hb dJ14_toString_2_25 (va_rf_cat _) (lr_aload_n hx hb dJ14_toString_2_26 rfl (lv_at hl 0 rfl) (lv_iconst (v := 0) hx hb dJ14_toString_2_27 rfl k))) ?_
    refine rk_callV hX (cl_I (rest := [va_rf (some v22)]) C (ct_J7_init_3 H (some v22) (some v12) 0) (lw_meth q2092) q110 q2090 q2091 rfl hd_J7_init_3 ⟨(Nat.le_of_ble_eq_true rfl), (Nat.le_of_ble_eq_true rfl)⟩ rfl hl.1 rfl (zw_le (zw_R zw_nil) (Nat.le_of_ble_eq_true rfl)) dJ14_toString_2_28) (fun _ => ?_)
    exact rk_top (rf_aret C (Or.inl ⟨_, rfl⟩) dJ14_toString_2_31)
theorem hd_J14_toString : yJ14_toString.cls ≠ "java/lang/invoke/MethodHandle" ∧ yJ14_toString.cls ≠ "java/lang/invoke/VarHandle" ∧ (parseMethodDescriptor yJ14_toString.desc).map (fun d => d.parameters.length) = some 0 := by decide +kernel
noncomputable def fn_J14_toString (K : zm_K) (a0 : zm_R) : zm_M zm_R :=
  zm_bnd (zm_getI a0 6 0) fun v1 =>
  zm_bnd (fn_J14_toString_2 K v1) fun v4 =>
  zm_ret v4
theorem ct_J14_toString {l : Launch} {Ω : zm_W} {K : zm_K} (H : zm_H Ω K) (a0 : zm_R) : zm_Ct l Ω yJ14_toString (ws_ yJ14_toString cJ14_toString 1 (Option.some (Jvm.ClassFile.FieldType.object "java/lang/String"))) 4 128 [va_rf a0] zm_tvR (fn_J14_toString K a0) := by
  refine zm_ct H.1 (by decide +kernel) (zl_le (zl_R zl_nil) (Nat.le_of_ble_eq_true rfl)) ?_
  intro p e R s m args below meth c n0 k0 C hX ls hl
  have hx := C.1
  have hb := C.2.1
  simp only [zg_R, zg_nil] at hl
  have hl : lv_has ls 1 [(0, va_rf a0)] := hl
  refine rk_rf ?_
  unfold fn_J14_toString
  refine rk_of (fun _ _ _ _ _ k => lr_aload_n hx hb dJ14_toString_0 rfl (lv_at hl 0 rfl) k) ?_
  refine rk_get zm_rdI_eq C (hc_J14 H) (k := 0) (Nat.le_of_ble_eq_true rfl) in_J14 q1194 (fun _ h => h) dJ14_toString_1 (fun v1 => ?_)
  refine rk_callR hX (cl_S (rest := []) C (ct_J14_toString_2 H v1) (lw_S q2083 q2084 q119 q2085) hd_J14_toString_2 ⟨(Nat.le_of_ble_eq_true rfl), (Nat.le_of_ble_eq_true rfl)⟩ rfl hl.1 rfl (zw_le zw_nil (Nat.le_of_ble_eq_true rfl)) dJ14_toString_4) (fun v4 => ?_)
  exact rk_top (rf_aret C (Or.inl ⟨_, rfl⟩) dJ14_toString_7)
theorem hd_J7_toString : yJ7_toString.cls ≠ "java/lang/invoke/MethodHandle" ∧ yJ7_toString.cls ≠ "java/lang/invoke/VarHandle" ∧ (parseMethodDescriptor yJ7_toString.desc).map (fun d => d.parameters.length) = some 0 := by decide +kernel
noncomputable def fn_J7_toString (K : zm_K) (a0 : zm_R) : zm_M zm_R :=
  zm_ret a0
theorem ct_J7_toString {l : Launch} {Ω : zm_W} {K : zm_K} (H : zm_H Ω K) (a0 : zm_R) : zm_Ct l Ω yJ7_toString (ws_ yJ7_toString cJ7_toString 1 (Option.some (Jvm.ClassFile.FieldType.object "java/lang/String"))) 1 64 [va_rf a0] zm_tvR (fn_J7_toString K a0) := by
  refine zm_ct H.1 (by decide +kernel) (zl_le (zl_R zl_nil) (Nat.le_of_ble_eq_true rfl)) ?_
  intro p e R s m args below meth c n0 k0 C hX ls hl
  have hx := C.1
  have hb := C.2.1
  simp only [zg_R, zg_nil] at hl
  have hl : lv_has ls 1 [(0, va_rf a0)] := hl
  refine rk_rf ?_
  unfold fn_J7_toString
  refine rk_of (fun _ _ _ _ _ k => lr_aload_n hx hb dJ7_toString_0 rfl (lv_at hl 0 rfl) k) ?_
  exact rk_top (rf_aret C (Or.inl ⟨_, rfl⟩) dJ7_toString_1)
theorem hd_J7_valueOf : yJ7_valueOf.cls ≠ "java/lang/invoke/MethodHandle" ∧ yJ7_valueOf.cls ≠ "java/lang/invoke/VarHandle" ∧ (parseMethodDescriptor yJ7_valueOf.desc).map (fun d => d.parameters.length) = some 1 := by decide +kernel
noncomputable def fn_J7_valueOf (K : zm_K) (a0 : zm_R) : zm_M zm_R :=
  if a0 = none then
    zm_ret (K.2 26)
  else
    zm_bnd (zm_bnd (zm_cls a0) fun ci => if ci = 21 then fn_J9_toString K a0 else if ci = 28 then fn_J9_toString K a0 else if ci = 17 then fn_J9_toString K a0 else if ci = 14 then fn_J9_toString K a0 else if ci = 5 then fn_J9_toString K a0 else if ci = 15 then fn_J9_toString K a0 else if ci = 8 then fn_J9_toString K a0 else if ci = 6 then fn_J14_toString K a0 else if ci = 3 then fn_J7_toString K a0 else if ci = 2 then fn_J6_toString K a0 else if ci = 16 then fn_J9_toString K a0 else if ci = 13 then fn_J9_toString K a0 else zm_fl) fun v11 =>
    zm_ret v11
theorem ct_J7_valueOf {l : Launch} {Ω : zm_W} {K : zm_K} (H : zm_H Ω K) (a0 : zm_R) : zm_Ct l Ω yJ7_valueOf (ws_ yJ7_valueOf cJ7_valueOf 1 (Option.some (Jvm.ClassFile.FieldType.object "java/lang/String"))) 12 309 [va_rf a0] zm_tvR (fn_J7_valueOf K a0) := by
  refine zm_ct H.1 (by decide +kernel) (zl_le (zl_R zl_nil) (Nat.le_of_ble_eq_true rfl)) ?_
  intro p e R s m args below meth c n0 k0 C hX ls hl
  have hx := C.1
  have hb := C.2.1
  simp only [zg_R, zg_nil] at hl
  have hl : lv_has ls 1 [(0, va_rf a0)] := hl
  refine rk_rf ?_
  unfold fn_J7_valueOf
  refine rk_ite (fun _ _ _ _ _ k1 k2 => lr_aload_n hx hb dJ7_valueOf_0 rfl (lv_at hl 0 rfl) (lr_ifnonnull (tgt := 10) hx hb dJ7_valueOf_1 (by decide) k2 k1)) (fun c_1 => ?_) (fun c_1 => ?_)
  · refine rk_of (fun _ _ _ _ _ k => zs_ldcw C (zh_s26 H) dJ7_valueOf_4 (lv_goto (tgt := 14) hx hb dJ7_valueOf_7 (by decide) k)) ?_
    exact rk_top (rf_aret C (Or.inl ⟨_, rfl⟩) dJ7_valueOf_14)
  · refine rk_of (fun _ _ _ _ _ k => lr_aload_n hx hb dJ7_valueOf_10 rfl (lv_at hl 0 rfl) k) ?_
    refine rk_callR hX (cl_dsp (fun ci => cl_case (cl_U (n := 0) (rest := []) (av := []) C (hc_X4 H) (ct_J9_toString H a0) (lw_meth q897) q113 q2060 (C.2.2.2.1 _ q2062) (Cond.declares_spec (zn_wD H C q2059)) (C.2.2.2.1 _ q2067) q885 (by decide +kernel) ⟨(Nat.le_of_ble_eq_true rfl), (Nat.le_of_ble_eq_true rfl)⟩ rfl hl.1 rfl (zw_le zw_nil (Nat.le_of_ble_eq_true rfl)) dJ7_valueOf_11) (cl_case (cl_U (n := 0) (rest := []) (av := []) C (hc_X12 H) (ct_J9_toString H a0) (lw_meth q897) q113 q2060 (C.2.2.2.1 _ q2062) (Cond.declares_spec (zn_wD H C q2059)) (C.2.2.2.1 _ q2071) q885 (by decide +kernel) ⟨(Nat.le_of_ble_eq_true rfl), (Nat.le_of_ble_eq_true rfl)⟩ rfl hl.1 rfl (zw_le zw_nil (Nat.le_of_ble_eq_true rfl)) dJ7_valueOf_11) (cl_case (cl_U (n := 0) (rest := []) (av := []) C (hc_J32 H) (ct_J9_toString H a0) (lw_meth q897) q113 q2060 (C.2.2.2.1 _ q2062) (Cond.declares_spec (zn_wD H C q2059)) (C.2.2.2.1 _ q2075) q885 (by decide +kernel) ⟨(Nat.le_of_ble_eq_true rfl), (Nat.le_of_ble_eq_true rfl)⟩ rfl hl.1 rfl (zw_le zw_nil (Nat.le_of_ble_eq_true rfl)) dJ7_valueOf_11) (cl_case (cl_U (n := 0) (rest := []) (av := []) C (hc_J29 H) (ct_J9_toString H a0) (lw_meth q897) q113 q2060 (C.2.2.2.1 _ q2062) (Cond.declares_spec (zn_wD H C q2059)) (C.2.2.2.1 _ q2076) q885 (by decide +kernel) ⟨(Nat.le_of_ble_eq_true rfl), (Nat.le_of_ble_eq_true rfl)⟩ rfl hl.1 rfl (zw_le zw_nil (Nat.le_of_ble_eq_true rfl)) dJ7_valueOf_11) (cl_case (cl_U (n := 0) (rest := []) (av := []) C (hc_J12 H) (ct_J9_toString H a0) (lw_meth q897) q113 q2060 (C.2.2.2.1 _ q2062) (Cond.declares_spec (zn_wD H C q2059)) (C.2.2.2.1 _ q2077) q885 (by decide +kernel) ⟨(Nat.le_of_ble_eq_true rfl), (Nat.le_of_ble_eq_true rfl)⟩ rfl hl.1 rfl (zw_le zw_nil (Nat.le_of_ble_eq_true rfl)) dJ7_valueOf_11) (cl_case (cl_U (n := 0) (rest := []) (av := []) C (hc_J30 H) (ct_J9_toString H a0) (lw_meth q897) q113 q2060 (C.2.2.2.1 _ q2062) (Cond.declares_spec (zn_wD H C q2059)) (C.2.2.2.1 _ q2078) q885 (by decide +kernel) ⟨(Nat.le_of_ble_eq_true rfl), (Nat.le_of_ble_eq_true rfl)⟩ rfl hl.1 rfl (zw_le zw_nil (Nat.le_of_ble_eq_true rfl)) dJ7_valueOf_11) (cl_case (cl_U (n := 0) (rest := []) (av := []) C (hc_J19 H) (ct_J9_toString H a0) (lw_meth q897) q113 q2060 (C.2.2.2.1 _ q2062) (Cond.declares_spec (zn_wD H C q2059)) (C.2.2.2.1 _ q2079) q885 (by decide +kernel) ⟨(Nat.le_of_ble_eq_true rfl), (Nat.le_of_ble_eq_true rfl)⟩ rfl hl.1 rfl (zw_le zw_nil (Nat.le_of_ble_eq_true rfl)) dJ7_valueOf_11) (cl_case (cl_U (n := 0) (rest := []) (av := []) C (hc_J14 H) (ct_J14_toString H a0) (lw_meth q2082) q119 q2060 (C.2.2.2.1 _ q2062) (Cond.declares_spec (zn_wD H C q2059)) (C.2.2.2.1 _ q2080) q2081 (by decide +kernel) ⟨(Nat.le_of_ble_eq_true rfl), (Nat.le_of_ble_eq_true rfl)⟩ rfl hl.1 rfl (zw_le zw_nil (Nat.le_of_ble_eq_true rfl)) dJ7_valueOf_11) (cl_case (cl_U (n := 0) (rest := []) (av := []) C (hc_J7 H) (ct_J7_toString H a0) (lw_meth q2096) q110 q2060 (C.2.2.2.1 _ q2062) (Cond.declares_spec (zn_wD H C q2059)) (C.2.2.2.1 _ q2094) q2095 (by decide +kernel) ⟨(Nat.le_of_ble_eq_true rfl), (Nat.le_of_ble_eq_true rfl)⟩ rfl hl.1 rfl (zw_le zw_nil (Nat.le_of_ble_eq_true rfl)) dJ7_valueOf_11) (cl_case (cl_U (n := 0) (rest := []) (av := []) C (hc_J6 H) (ct_J6_toString H a0) (lw_meth q562) q109 q2060 (C.2.2.2.1 _ q2062) (Cond.declares_spec (zn_wD H C q2059)) (C.2.2.2.1 _ q2097) q560 (by decide +kernel) ⟨(Nat.le_of_ble_eq_true rfl), (Nat.le_of_ble_eq_true rfl)⟩ rfl hl.1 rfl (zw_le zw_nil (Nat.le_of_ble_eq_true rfl)) dJ7_valueOf_11) (cl_case (cl_U (n := 0) (rest := []) (av := []) C (hc_J31 H) (ct_J9_toString H a0) (lw_meth q897) q113 q2060 (C.2.2.2.1 _ q2062) (Cond.declares_spec (zn_wD H C q2059)) (C.2.2.2.1 _ q2098) q885 (by decide +kernel) ⟨(Nat.le_of_ble_eq_true rfl), (Nat.le_of_ble_eq_true rfl)⟩ rfl hl.1 rfl (zw_le zw_nil (Nat.le_of_ble_eq_true rfl)) dJ7_valueOf_11) (cl_case (cl_U (n := 0) (rest := []) (av := []) C (hc_J28 H) (ct_J9_toString H a0) (lw_meth q897) q113 q2060 (C.2.2.2.1 _ q2062) (Cond.declares_spec (zn_wD H C q2059)) (C.2.2.2.1 _ q2100) q885 (by decide +kernel) ⟨(Nat.le_of_ble_eq_true rfl), (Nat.le_of_ble_eq_true rfl)⟩ rfl hl.1 rfl (zw_le zw_nil (Nat.le_of_ble_eq_true rfl)) dJ7_valueOf_11) (cl_fl)))))))))))))) (fun v11 => ?_)
    exact rk_top (rf_aret C (Or.inl ⟨_, rfl⟩) dJ7_valueOf_14)
theorem hd_J6_append_4 : yJ6_append_4.cls ≠ "java/lang/invoke/MethodHandle" ∧ yJ6_append_4.cls ≠ "java/lang/invoke/VarHandle" ∧ (parseMethodDescriptor yJ6_append_4.desc).map (fun d => d.parameters.length) = some 1 := by decide +kernel
noncomputable def fn_J6_append_4 (K : zm_K) (a0 : zm_R) (a1 : zm_R) : zm_M zm_R :=
  zm_bnd (fn_J7_valueOf K a1) fun v2 =>
  zm_bnd (zm_bnd (zm_is a0 2) fun _ => fn_J6_append K a0 v2) fun v5 =>
  zm_ret v5
theorem ct_J6_append_4 {l : Launch} {Ω : zm_W} {K : zm_K} (H : zm_H Ω K) (a0 : zm_R) (a1 : zm_R) : zm_Ct l Ω yJ6_append_4 (ws_ yJ6_append_4 cJ6_append_4 2 (Option.some (Jvm.ClassFile.FieldType.object "java/lang/StringBuilder"))) 13 329 [va_rf a0, va_rf a1] zm_tvR (fn_J6_append_4 K a0 a1) := by
  refine zm_ct H.1 (by decide +kernel) (zl_le (zl_R (zl_R zl_nil)) (Nat.le_of_ble_eq_true rfl)) ?_
  intro p e R s m args below meth c n0 k0 C hX ls hl
  have hx := C.1
  have hb := C.2.1
  simp only [zg_R, zg_nil] at hl
  have hl : lv_has ls 2 [(0, va_rf a0), (1, va_rf a1)] := hl
  refine rk_rf ?_
  unfold fn_J6_append_4
  refine rk_of (fun _ _ _ _ _ k => lr_aload_n hx hb dJ6_append_4_0 rfl (lv_at hl 0 rfl) (lr_aload_n hx hb dJ6_append_4_1 rfl (lv_at hl 1 rfl) k)) ?_
  refine rk_callR hX (cl_S (rest := [va_rf a0]) C (ct_J7_valueOf H a1) (lw_S q2055 q2056 q110 q2057) hd_J7_valueOf ⟨(Nat.le_of_ble_eq_true rfl), (Nat.le_of_ble_eq_true rfl)⟩ rfl hl.1 rfl (zw_le (zw_R zw_nil) (Nat.le_of_ble_eq_true rfl)) dJ6_append_4_2) (fun v2 => ?_)
  refine rk_callR hX (cl_V (rest := []) (av := [va_rf v2]) C (hc_J6 H) (ct_J6_append H a0 v2) (lw_V q2101 q414 q415 q109 q416) ⟨rfl, hd_J6_append⟩ ⟨(Nat.le_of_ble_eq_true rfl), (Nat.le_of_ble_eq_true rfl)⟩ rfl hl.1 rfl (zw_le zw_nil (Nat.le_of_ble_eq_true rfl)) dJ6_append_4_5) (fun v5 => ?_)
  exact rk_top (rf_aret C (Or.inl ⟨_, rfl⟩) dJ6_append_4_8)
end
